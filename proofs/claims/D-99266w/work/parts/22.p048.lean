/-! DAYS, the plain law. No JVM here. -/
set_option maxRecDepth 100000
set_option linter.unusedVariables false
def dzW (V0 S : Vw) (s : Int) : Int := cnt (fun p => decide (V0 (5 + 4 + p) 5 = 1 ∧ V0 (5 + 4 + p) 0 = s ∧ S 3 p = -1)) 12
def dzF (V0 S : Vw) (r k : Nat) (u p f : Int) : Nat → Int := fun i => if i = 0 then (r : Int) else if i = 1 then st V0 r k else if i = 2 then (k : Int) else if i = 3 then S 2 r else if i = 4 then dzW V0 S (st V0 r k) else if i = 5 then p else if i = 6 then f else if i = 7 then S 4 0 % 7 else u
def dzB (sy : Int → (Nat → Int) → Bool) (V0 S : Vw) (p r k : Nat) (u : Int) : Vw := if sy 109 (dzF V0 S r k u (p : Int) (S 1 p)) = true then up (up S 1 p (min 9999 (S 1 p + 1))) 4 3 (S 4 3 + 1) else up S 3 p (r : Int)
abbrev dzC (V0 S : Vw) (r k p : Nat) : Prop := V0 (5 + 4 + p) 5 = 1 ∧ V0 (5 + 4 + p) 0 = st V0 r k ∧ S 3 p = -1 ∧ V0 (5 + 4 + p) 2 ≤ mi V0 r k + S 2 r ∧ (k : Int) < sAt V0 r (V0 (5 + 4 + p) 1)
def dzR (sy : Int → (Nat → Int) → Bool) (V0 : Vw) (r k : Nat) (u : Int) (S : Vw) : Nat → Vw
  | 0 => S
  | n + 1 => if dzC V0 (dzR sy V0 r k u S n) r k n then dzB sy V0 (dzR sy V0 r k u S n) n r k u else dzR sy V0 r k u S n
def dzA (V0 : Vw) (r : Nat) (s : Int) (S : Vw) : Nat → Vw
  | 0 => S
  | n + 1 => if V0 (5 + 4 + n) 5 = 1 ∧ dzA V0 r s S n 3 n = (r : Int) ∧ V0 (5 + 4 + n) 1 = s then up (up (up (dzA V0 r s S n) 3 n 48) 0 n (min 9999 (dzA V0 r s S n 0 n + 1))) 4 2 (dzA V0 r s S n 4 2 + 1) else dzA V0 r s S n
def dzX (S : Vw) : Vw := up S 4 1 ((25173 * S 4 1 + 13849) % 65536)
def dzM (tl : Int → (Nat → Int) → Int) (V0 S : Vw) (r k : Nat) : Int := max 0 (min 240 (S 2 r + tl 100 (dzF V0 S r k (S 4 1 % 10) 0 0) - tl 99 (dzF V0 S r k (S 4 1 % 10) 0 0)))
def dzL (tl : Int → (Nat → Int) → Int) (V0 S : Vw) (r k : Nat) : Vw := up (up S 2 r (dzM tl V0 S r k)) 4 4 (max (S 4 4) (dzM tl V0 S r k))
def dzStop (sy : Int → (Nat → Int) → Bool) (tl : Int → (Nat → Int) → Int) (V0 S : Vw) (r k : Nat) : Vw := dzR sy V0 r k (dzX S 4 1 % 10) (dzA V0 r (st V0 r k) (dzL tl V0 (dzX S) r k) 12) 12
def dzEv (sy : Int → (Nat → Int) → Bool) (tl : Int → (Nat → Int) → Int) (V0 S : Vw) : Nat → Vw
  | 0 => S
  | e + 1 => if ru V0 (evT V0 e) then dzStop sy tl V0 (dzEv sy tl V0 S e) (evT V0 e) (evS V0 e) else dzEv sy tl V0 S e
def dz0 (V0 S : Vw) : Vw := fun o k => if o = 3 then -1 else if o = 2 then pl V0 k else S o k
def dzDay (sy : Int → (Nat → Int) → Bool) (tl : Int → (Nat → Int) → Int) (V0 S : Vw) : Vw := up (dzEv sy tl V0 (dz0 V0 S) (nE V0)) 4 0 (dzEv sy tl V0 (dz0 V0 S) (nE V0) 4 0 + 1)
def dzGo (sy : Int → (Nat → Int) → Bool) (tl : Int → (Nat → Int) → Int) (V0 S : Vw) : Nat → Vw
  | 0 => S
  | n + 1 => if 9999 ≤ dzGo sy tl V0 S n 4 0 then dzGo sy tl V0 S n else dzDay sy tl V0 (dzGo sy tl V0 S n)
def dzS (S : Vw) : Vw := up (up (up S 4 2 0) 4 3 0) 4 4 0
/-- bounds -/
def dzK (V0 S : Vw) : Prop := (∀ p, p < 12 → 0 ≤ S 0 p ∧ S 0 p ≤ 9999 ∧ 0 ≤ S 1 p ∧ S 1 p ≤ 9999 ∧ -1 ≤ S 3 p ∧ S 3 p ≤ 48) ∧ (∀ r, r < nT V0 → 0 ≤ S 2 r ∧ S 2 r ≤ 240) ∧ 0 ≤ S 4 0 ∧ S 4 0 ≤ 9999 ∧ 0 ≤ S 4 1 ∧ S 4 1 ≤ 65535 ∧ 0 ≤ S 4 4 ∧ S 4 4 ≤ 240
section DP
variable {V0 V S : Vw} {p k j i r e n : Nat} {s t u : Int} {sy : Int → (Nat → Int) → Bool} {tl : Int → (Nat → Int) → Int}
theorem dzK_up3 (g : dzK V0 S) {v : Int} (hv : -1 ≤ v ∧ v ≤ 48) : dzK V0 (up S 3 p v) := by
  obtain ⟨g1, g2, g3, g4, g5, g6, g7, g8⟩ := g
  refine ⟨fun q hq => ?_, fun r hr => by rw [up_r (by omega)]; exact g2 r hr, by rw [up_r (by omega)]; exact g3, by rw [up_r (by omega)]; exact g4, by rw [up_r (by omega)]; exact g5, by rw [up_r (by omega)]; exact g6, by rw [up_r (by omega)]; exact g7, by rw [up_r (by omega)]; exact g8⟩
  have := g1 q hq
  rw [up_r (show 0 ≠ 3 by omega), up_r (show 1 ≠ 3 by omega)]
  by_cases c : q = p
  · rw [c, up_s]
    rw [c] at this
    omega
  · rw [up_k c]
    exact this
theorem dzK_up0 (g : dzK V0 S) {v : Int} (hv : 0 ≤ v ∧ v ≤ 9999) : dzK V0 (up S 0 p v) := by
  obtain ⟨g1, g2, g3, g4, g5, g6, g7, g8⟩ := g
  refine ⟨fun q hq => ?_, fun r hr => by rw [up_r (by omega)]; exact g2 r hr, by rw [up_r (by omega)]; exact g3, by rw [up_r (by omega)]; exact g4, by rw [up_r (by omega)]; exact g5, by rw [up_r (by omega)]; exact g6, by rw [up_r (by omega)]; exact g7, by rw [up_r (by omega)]; exact g8⟩
  have := g1 q hq
  rw [up_r (show 1 ≠ 0 by omega), up_r (show 3 ≠ 0 by omega)]
  by_cases c : q = p
  · rw [c, up_s]
    rw [c] at this
    omega
  · rw [up_k c]
    exact this
theorem dzK_up1 (g : dzK V0 S) {v : Int} (hv : 0 ≤ v ∧ v ≤ 9999) : dzK V0 (up S 1 p v) := by
  obtain ⟨g1, g2, g3, g4, g5, g6, g7, g8⟩ := g
  refine ⟨fun q hq => ?_, fun r hr => by rw [up_r (by omega)]; exact g2 r hr, by rw [up_r (by omega)]; exact g3, by rw [up_r (by omega)]; exact g4, by rw [up_r (by omega)]; exact g5, by rw [up_r (by omega)]; exact g6, by rw [up_r (by omega)]; exact g7, by rw [up_r (by omega)]; exact g8⟩
  have := g1 q hq
  rw [up_r (show 0 ≠ 1 by omega), up_r (show 3 ≠ 1 by omega)]
  by_cases c : q = p
  · rw [c, up_s]
    rw [c] at this
    omega
  · rw [up_k c]
    exact this
theorem dzK_up2 (g : dzK V0 S) {v : Int} (hv : 0 ≤ v ∧ v ≤ 240) : dzK V0 (up S 2 p v) := by
  obtain ⟨g1, g2, g3, g4, g5, g6, g7, g8⟩ := g
  refine ⟨fun q hq => by rw [up_r (show 0 ≠ 2 by omega), up_r (show 1 ≠ 2 by omega), up_r (show 3 ≠ 2 by omega)]; exact g1 q hq, fun r hr => ?_, by rw [up_r (by omega)]; exact g3, by rw [up_r (by omega)]; exact g4, by rw [up_r (by omega)]; exact g5, by rw [up_r (by omega)]; exact g6, by rw [up_r (by omega)]; exact g7, by rw [up_r (by omega)]; exact g8⟩
  by_cases c : r = p
  · rw [c, up_s]
    omega
  · rw [up_k c]
    exact g2 r hr
theorem dzK_up4 (g : dzK V0 S) {i : Nat} {v : Int} (hv : (i = 0 → 0 ≤ v ∧ v ≤ 9999) ∧ (i = 1 → 0 ≤ v ∧ v ≤ 65535) ∧ (i = 4 → 0 ≤ v ∧ v ≤ 240)) : dzK V0 (up S 4 i v) := by
  obtain ⟨g1, g2, g3, g4, g5, g6, g7, g8⟩ := g
  have e : ∀ j, up S 4 i v 4 j = if j = i then v else S 4 j := fun j => by
    by_cases c : j = i
    · rw [c, up_s, if_pos rfl]
    · rw [up_k c, if_neg c]
  refine ⟨fun q hq => by rw [up_r (show 0 ≠ 4 by omega), up_r (show 1 ≠ 4 by omega), up_r (show 3 ≠ 4 by omega)]; exact g1 q hq, fun r hr => by rw [up_r (show 2 ≠ 4 by omega)]; exact g2 r hr, ?_, ?_, ?_, ?_, ?_, ?_⟩ <;> rw [e] <;> split <;> omega
theorem dzK_X (g : dzK V0 S) : dzK V0 (dzX S) := dzK_up4 g (by omega)
theorem dzK_M (r k : Nat) : 0 ≤ dzM tl V0 S r k ∧ dzM tl V0 S r k ≤ 240 := by
  unfold dzM
  omega
theorem dzK_L (g : dzK V0 S) : dzK V0 (dzL tl V0 S r k) := by
  have m := dzK_M (tl := tl) (V0 := V0) (S := S) r k
  have b := g.2.2.2.2.2.2
  exact dzK_up4 (dzK_up2 g m) (by omega)
theorem dzK_A (g : dzK V0 S) : ∀ n, n ≤ 12 → dzK V0 (dzA V0 r s S n)
  | 0, _ => g
  | n + 1, hn => by
    have ih := dzK_A g n (by omega)
    rw [dzA]
    split
    · have b := ih.1 n (by omega)
      exact dzK_up4 (dzK_up0 (dzK_up3 ih (by omega)) (by omega)) (by omega)
    · exact ih
theorem dzK_B (g : dzK V0 S) (hp : p < 12) (hr : r < 48) : dzK V0 (dzB sy V0 S p r k u) := by
  unfold dzB
  split
  · have b := g.1 p hp
    exact dzK_up4 (dzK_up1 g (by omega)) (by omega)
  · exact dzK_up3 g (by omega)
theorem dzK_R (g : dzK V0 S) (hr : r < 48) : ∀ n, n ≤ 12 → dzK V0 (dzR sy V0 r k u S n)
  | 0, _ => g
  | n + 1, hn => by
    have ih := dzK_R g hr n (by omega)
    rw [dzR]
    split
    · exact dzK_B ih (by omega) hr
    · exact ih
theorem dzK_stop (g : dzK V0 S) (hr : r < 48) : dzK V0 (dzStop sy tl V0 S r k) := dzK_R (dzK_A (dzK_L (dzK_X g)) 12 (Nat.le_refl _)) hr 12 (Nat.le_refl _)
theorem dzK_ev (i : Inv V0) (g : dzK V0 S) : ∀ n, n ≤ nE V0 → dzK V0 (dzEv sy tl V0 S n)
  | 0, _ => g
  | n + 1, hn => by
    have ih := dzK_ev i g n (by omega)
    rw [dzEv]
    split
    · exact dzK_stop ih (r48 i.rel (et_b i.rel (by omega)))
    · exact ih
theorem dzK_0 (i : Inv V0) (g : dzK V0 S) : dzK V0 (dz0 V0 S) := by
  obtain ⟨g1, g2, g3, g4, g5, g6, g7, g8⟩ := g
  refine ⟨fun q hq => ?_, fun r hr => ?_, g3, g4, g5, g6, g7, g8⟩
  · have := g1 q hq
    show 0 ≤ S 0 q ∧ S 0 q ≤ 9999 ∧ 0 ≤ S 1 q ∧ S 1 q ≤ 9999 ∧ (-1 : Int) ≤ -1 ∧ (-1 : Int) ≤ 48
    omega
  · have := pl_b i.rel hr
    show 0 ≤ pl V0 r ∧ pl V0 r ≤ 240
    omega
/-- the day's number stays as it is while the day goes -/
theorem dzA_d : ∀ n, dzA V0 r s S n 4 0 = S 4 0
  | 0 => rfl
  | n + 1 => by
    rw [dzA]
    split
    · rw [up_k (by omega), up_r (by omega), up_r (by omega)]
      exact dzA_d n
    · exact dzA_d n
theorem dzR_d : ∀ n, dzR sy V0 r k u S n 4 0 = S 4 0
  | 0 => rfl
  | n + 1 => by
    rw [dzR]
    split
    · unfold dzB
      split
      · rw [up_k (by omega), up_r (by omega)]
        exact dzR_d n
      · rw [up_r (by omega)]
        exact dzR_d n
    · exact dzR_d n
theorem dzEv_d : ∀ n, dzEv sy tl V0 S n 4 0 = S 4 0
  | 0 => rfl
  | n + 1 => by
    rw [dzEv]
    split
    · unfold dzStop
      rw [dzR_d, dzA_d]
      unfold dzL dzX
      rw [up_k (by omega), up_r (by omega), up_k (by omega)]
      exact dzEv_d n
    · exact dzEv_d n
theorem dzK_day (i : Inv V0) (g : dzK V0 S) (h : ¬ 9999 ≤ S 4 0) : dzK V0 (dzDay sy tl V0 S) := by
  have a := dzK_ev (sy := sy) (tl := tl) i (dzK_0 i g) (nE V0) (Nat.le_refl _)
  have b : dzEv sy tl V0 (dz0 V0 S) (nE V0) 4 0 = S 4 0 := dzEv_d _
  have c := g.2.2.1
  exact dzK_up4 a (by omega)
theorem dzK_go (i : Inv V0) (g : dzK V0 S) : ∀ n, dzK V0 (dzGo sy tl V0 S n)
  | 0 => g
  | n + 1 => by
    have ih := dzK_go i g n
    rw [dzGo]
    split
    · exact ih
    · exact dzK_day i ih ‹_›
/-- the same, but for what a day begins with anew -/
def dzQ (S : Vw) : Prop := (∀ p, p < 12 → 0 ≤ S 0 p ∧ S 0 p ≤ 9999 ∧ 0 ≤ S 1 p ∧ S 1 p ≤ 9999) ∧ 0 ≤ S 4 0 ∧ S 4 0 ≤ 9999 ∧ 0 ≤ S 4 1 ∧ S 4 1 ≤ 65535 ∧ 0 ≤ S 4 4 ∧ S 4 4 ≤ 240
theorem dzK_Q (g : dzK V0 S) : dzQ S := ⟨fun p hp => by have := g.1 p hp; omega, g.2.2⟩
theorem dzQ_0 (i : Inv V0) (g : dzQ S) : dzK V0 (dz0 V0 S) := by
  obtain ⟨g1, g3⟩ := g
  refine ⟨fun q hq => ?_, fun r hr => ?_, g3⟩
  · have := g1 q hq
    show 0 ≤ S 0 q ∧ S 0 q ≤ 9999 ∧ 0 ≤ S 1 q ∧ S 1 q ≤ 9999 ∧ (-1 : Int) ≤ -1 ∧ (-1 : Int) ≤ 48
    omega
  · have := pl_b i.rel hr
    show 0 ≤ pl V0 r ∧ pl V0 r ≤ 240
    omega
theorem dzQ_day (i : Inv V0) (g : dzQ S) (h : ¬ 9999 ≤ S 4 0) : dzK V0 (dzDay sy tl V0 S) := by
  have a := dzK_ev (sy := sy) (tl := tl) i (dzQ_0 i g) (nE V0) (Nat.le_refl _)
  have b : dzEv sy tl V0 (dz0 V0 S) (nE V0) 4 0 = S 4 0 := dzEv_d _
  have c := g.2.1
  exact dzK_up4 a (by omega)
theorem dzQ_go (i : Inv V0) (g : dzQ S) : ∀ n, dzQ (dzGo sy tl V0 S n)
  | 0 => g
  | n + 1 => by
    have ih := dzQ_go i g n
    rw [dzGo]
    split
    · exact ih
    · exact dzK_Q (dzQ_day i ih ‹_›)
theorem dzQ_S (h0 : ∀ p, p < 12 → 0 ≤ S 0 p ∧ S 0 p ≤ 9999 ∧ 0 ≤ S 1 p ∧ S 1 p ≤ 9999) (h1 : 0 ≤ S 4 0 ∧ S 4 0 ≤ 9999) (h2 : 0 ≤ S 4 1 ∧ S 4 1 ≤ 65535) : dzQ (dzS S) := by
  unfold dzS
  refine ⟨fun p hp => by simp (disch := omega) only [up_r]; exact h0 p hp, ?_⟩
  simp (disch := omega) only [up_s, up_k]
  omega
/-- what a day begins with anew does not matter -/
theorem dzGo_c {S' : Vw} (h : ∀ o, o ≠ 2 → o ≠ 3 → S o = S' o) : ∀ n o, o ≠ 2 → o ≠ 3 → dzGo sy tl V0 S n o = dzGo sy tl V0 S' n o
  | 0 => h
  | n + 1 => fun o o2 o3 => by
    have ih := dzGo_c h n
    rw [dzGo, dzGo, ih 4 (by omega) (by omega)]
    split
    · exact ih o o2 o3
    · have e : dz0 V0 (dzGo sy tl V0 S n) = dz0 V0 (dzGo sy tl V0 S' n) := by
        funext a k
        unfold dz0
        by_cases c3 : a = 3
        · rw [if_pos c3, if_pos c3]
        · rw [if_neg c3, if_neg c3]
          by_cases c2 : a = 2
          · rw [if_pos c2, if_pos c2]
          · rw [if_neg c2, if_neg c2, ih a c2 c3]
      unfold dzDay
      rw [e]
theorem dzK_S (g : dzK V0 S) : dzK V0 (dzS S) := dzK_up4 (dzK_up4 (dzK_up4 g (by omega)) (by omega)) (by omega)
/-- nobody boards at a train's last stop -/
theorem dzR_last (h : ∀ p, p < 12 → ¬ (k : Int) < sAt V0 r (V0 (5 + 4 + p) 1)) : ∀ n, n ≤ 12 → dzR sy V0 r k u S n = S
  | 0, _ => rfl
  | n + 1, hn => by
    rw [dzR, if_neg (fun q => h n (by omega) q.2.2.2.2)]
    exact dzR_last h n (by omega)
theorem dzGo_end (h : 9999 ≤ dzGo sy tl V0 S n 4 0) : ∀ k, dzGo sy tl V0 S (n + k) = dzGo sy tl V0 S n
  | 0 => rfl
  | k + 1 => by
    rw [show n + (k + 1) = n + k + 1 by omega, dzGo, dzGo_end h k, if_pos h]
end DP
/-! what the days need of the law -/
def LawX (b : Nat) (lw : Option Nat) (R : Hp) (nx : Nat) (sy : Int → (Nat → Int) → Bool) (tl : Int → (Nat → Int) → Int) (many : Int) : Prop := ∀ R' : Hp, (∀ q, q < nx → R' q = R q) → ∀ V : Vw, hp_gI (Wd b V lw R') lw 4 3 = some (I many) ∧ hp_cls (Wd b V lw R') lw = some 4 ∧ ∀ F : Nat → Int, (∀ k, k < 9 → V 4 (k + 1) = F k) → (∃ x, fX5_says (Wd b V lw R') lw (I 109) (some (b + 4)) = some (I (if sy 109 F = true then 1 else 0), Wd b (up V 4 0 x) lw R')) ∧ ∀ c, c = 100 ∨ c = 99 → ∃ x, fX0_tells (Wd b V lw R') (some b) (I c) (I 60) = some (I (tl c F), Wd b (up V 4 0 x) lw R') ∧ 0 ≤ tl c F ∧ tl c F ≤ 60
def LawY (b : Nat) (V0 : Vw) (sy : Int → (Nat → Int) → Bool) (tl : Int → (Nat → Int) → Int) : Prop := ∀ (V : Vw) (lw : Option Nat) (R : Hp), agL V0 V → ∀ F : Nat → Int, (∀ k, k < 9 → V 285 k = F k) → (∃ V', fX7_holdsAny (Wd b V lw R) (some (b + 258)) (I 109) = some (I (if sy 109 F = true then 1 else 0), Wd b V' lw R) ∧ ∀ o, o ≠ 284 → V' o = V o) ∧ ∀ c, c = 100 ∨ c = 99 → ∃ V', fX7_byLaw (Wd b V lw R) (some (b + 258)) (I c) (I 60) = some (I (tl c F), Wd b V' lw R) ∧ ∀ o, o ≠ 284 → V' o = V o
def LawOK (b : Nat) (V : Vw) (lw : Option Nat) (R : Hp) (nx : Nat) : Prop := ∃ sy tl, LawX b lw R nx sy tl (V 258 26) ∧ LawY b V sy tl
