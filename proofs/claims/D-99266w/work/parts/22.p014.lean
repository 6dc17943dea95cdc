/-! CALLS: direct, longestWait. No JVM here. -/
set_option maxRecDepth 100000
set_option linter.unusedVariables false
section DW
variable {b : Nat} {V0 V : Vw} {lw : Option Nat} {R : Hp} {p k j i r e : Nat} {s t z y w : Int}
/-- an event of a train of a kind, at a station -/
abbrev evQ (V : Vw) (Q : Nat → Prop) (s : Int) (e : Nat) : Prop := Q (evT V e) ∧ st V (evT V e) (evS V e) = s
theorem evM_b (h : Rel V0 V) (he : e < nE V0) : 0 ≤ evM V0 e ∧ evM V0 e ≤ 1439 := mi_b h (et_b h he) (es_b h he)
theorem ev_le2 (h : Rel V0 V) (hi : i ≤ e) (he : e < nE V0) : evM V0 i ≤ evM V0 e := by
  by_cases c : i = e
  · subst c
    exact Int.le_refl _
  · exact ev_le h (by omega) he
theorem gap_ev (h : Rel V0 V) {Q : Nat → Prop} {la lo : Int} (g : gapS (fun x => ∃ i, i < e ∧ evQ V0 Q s i ∧ evM V0 i = x) la lo) (he : e < nE V0) : la ≤ evM V0 e := by
  have hb := evM_b h he
  rcases g with ⟨q, _, _⟩ | ⟨_, ⟨i, h1, _, h2⟩, _⟩
  · omega
  · rw [← h2]
    exact ev_le2 h (by omega) he
theorem gap_n {V : Vw} {Q : Nat → Prop} {la lo : Int} (g : gapS (fun x => ∃ i, i < e ∧ evQ V Q s i ∧ evM V i = x) la lo) (q : ¬ evQ V Q s e) : gapS (fun x => ∃ i, i < e + 1 ∧ evQ V Q s i ∧ evM V i = x) la lo := gapS_c (fun x => by
  constructor
  · intro ⟨i, h1, h2, h3⟩
    exact ⟨i, by omega, h2, h3⟩
  · intro ⟨i, h1, h2, h3⟩
    by_cases c : i = e
    · subst c
      exact absurd h2 q
    · exact ⟨i, by omega, h2, h3⟩) g
theorem gap_y (h : Rel V0 V) {Q : Nat → Prop} {la lo : Int} (g : gapS (fun x => ∃ i, i < e ∧ evQ V0 Q s i ∧ evM V0 i = x) la lo) (he : e < nE V0) (q : evQ V0 Q s e) : gapS (fun x => ∃ i, i < e + 1 ∧ evQ V0 Q s i ∧ evM V0 i = x) (evM V0 e) (if la = -1 then 0 else max lo (evM V0 e - la)) := gapS_c (fun x => by
  constructor
  · intro c
    rcases c with ⟨i, h1, h2, h3⟩ | c
    · exact ⟨i, by omega, h2, h3⟩
    · exact ⟨e, by omega, q, c.symm⟩
  · intro ⟨i, h1, h2, h3⟩
    by_cases c : i = e
    · subst c
      exact Or.inr h3.symm
    · exact Or.inl ⟨i, by omega, h2, h3⟩) (gapS_s g (gap_ev h g he) (evM_b h he).1)
/-- the same minutes, by events and by trains -/
theorem ev_tr (h : Rel V0 V) {Q : Nat → Prop} (hQ : ∀ r, r < nT V0 → Q r → 0 ≤ sAt V0 r s) (x : Int) : (∃ i, i < nE V0 ∧ evQ V0 Q s i ∧ evM V0 i = x) ↔ ∃ r, r < nT V0 ∧ Q r ∧ minAt V0 r s = x := by
  constructor
  · intro ⟨i, h1, ⟨h2, h3⟩, h4⟩
    refine ⟨evT V0 i, et_b h h1, h2, ?_⟩
    have := (sAt_k h (et_b h h1) (es_b h h1)).2
    unfold minAt
    rw [← h3, this]
    exact h4
  · intro ⟨r, h1, h2, h3⟩
    obtain ⟨e1, e2, e3⟩ := sAt_of (hQ r h1 h2)
    obtain ⟨i, f1, f2, f3⟩ := ev_of h h1 e2
    exact ⟨i, f1, ⟨by rw [f2]; exact h2, by rw [f2, f3]; exact e3⟩, by rw [← h3]; unfold evM minAt; rw [f2, f3]⟩
theorem ev_cnt (h : Rel V0 V) {Q : Nat → Prop} [DecidablePred Q] (hQ : ∀ r, r < nT V0 → Q r → 0 ≤ sAt V0 r s) : cnt (fun e => decide (evQ V0 Q s e)) (nE V0) = cnt (fun r => decide (Q r)) (nT V0) := by
  have a1 : cnt (fun e => decide (evQ V0 Q s e)) (nE V0) ≤ cnt (fun r => decide (Q r)) (nT V0) := cnt_inj (evT V0) (nE V0) (fun i hi hp => ⟨et_b h hi, decide_eq_true (of_decide_eq_true hp).1⟩) (fun i k hi hk hp hq e => by
    have h1 := (of_decide_eq_true hp).2
    have h2 := (of_decide_eq_true hq).2
    have s1 := (sAt_k h (et_b h hi) (es_b h hi)).2
    have s2 := (sAt_k h (et_b h hk) (es_b h hk)).2
    rw [h1] at s1
    rw [h2, ← e] at s2
    have e2 : evS V0 i = evS V0 k := s1.symm.trans s2
    by_cases c : i = k
    · exact c
    · by_cases d : i < k
      · exact absurd ⟨e, e2⟩ (ev_ne h d hk)
      · exact absurd ⟨e.symm, e2.symm⟩ (ev_ne h (show k < i by omega) hi))
  have a2 : cnt (fun r => decide (Q r)) (nT V0) ≤ cnt (fun e => decide (evQ V0 Q s e)) (nE V0) := by
    have key : ∀ r, r < nT V0 → Q r → ∃ i, i < nE V0 ∧ evT V0 i = r ∧ evS V0 i = sAn V0 r s := fun r hr hq => by
      obtain ⟨e1, e2, e3⟩ := sAt_of (hQ r hr hq)
      exact ev_of h hr e2
    have key2 : ∀ r, ∃ i, r < nT V0 → Q r → i < nE V0 ∧ evT V0 i = r ∧ evS V0 i = sAn V0 r s := fun r => by
      by_cases c : r < nT V0 ∧ Q r
      · obtain ⟨i, hi⟩ := key r c.1 c.2
        exact ⟨i, fun _ _ => hi⟩
      · exact ⟨0, fun c1 c2 => absurd ⟨c1, c2⟩ c⟩
    obtain ⟨f, hf⟩ := Classical.axiomOfChoice key2
    refine cnt_inj f (nT V0) (fun r hr hp => ?_) (fun r q hr hq hp hp2 e => ?_)
    · have hq := of_decide_eq_true hp
      obtain ⟨f1, f2, f3⟩ := hf r hr hq
      obtain ⟨e1, e2, e3⟩ := sAt_of (hQ r hr hq)
      exact ⟨f1, decide_eq_true ⟨by rw [f2]; exact hq, by rw [f2, f3]; exact e3⟩⟩
    · have h1 := (hf r hr (of_decide_eq_true hp)).2.1
      have h2 := (hf q hq (of_decide_eq_true hp2)).2.1
      rw [← h1, ← h2, e]
  omega
theorem x_longestWait (h : Rel V0 V) (hs : 0 ≤ s ∧ s < 10) : ∃ la lo, iter (fX0_longestWait_L16 (Wd b V lw R) (some b) (I s)) FUEL (I 0, I (-1), I 0) = some (I lo) ∧ gapS (fun x => ∃ i, i < nE V0 ∧ evQ V0 (fun r => leaves V0 r s) s i ∧ evM V0 i = x) la lo := by
  have hne := ne_b h
  have hn := n48 h
  obtain ⟨r, h1, la, lo, h2, h3⟩ := iter_for (b := fX0_longestWait_L16 (Wd b V lw R) (some b) (I s)) (s := (I 0, I (-1), I 0)) (fun n q => ∃ la lo : Int, q = (I lo, I la, I (n : Int)) ∧ gapS (fun x => ∃ i, i < n ∧ evQ V0 (fun r => leaves V0 r s) s i ∧ evM V0 i = x) la lo ∧ -1 ≤ la ∧ la ≤ 1439 ∧ 0 ≤ lo ∧ lo ≤ 1439) (fun r => ∃ la lo, r = I lo ∧ gapS (fun x => ∃ i, i < nE V0 ∧ evQ V0 (fun r => leaves V0 r s) s i ∧ evM V0 i = x) la lo) (nE V0) (by omega) ⟨-1, 0, rfl, Or.inl ⟨rfl, fun x hx => by obtain ⟨i, hi, _⟩ := hx; omega, rfl⟩, by omega, by omega, by omega, by omega⟩ (fun n q hS hn2 => by
      obtain ⟨la, lo, rfl, h1, h2, h3, h4, h5⟩ := hS
      have ht := et_b h hn2
      have hk := es_b h hn2
      have h48 := r48 h ht
      have hsm := sm2 h ht
      have hst := st_b h ht hk
      have hm := evM_b h hn2
      have hla := gap_ev h h1 hn2
      unfold fX0_longestWait_L16
      simp (disch := omega) only [k_1, k_0, I_neg, I_le, if_neg, gI0_4, v_ne h, gR0_0, gR0_1, gR0_2, rA2, rA3, tn, v_et h hn2, v_es h hn2, Option.bind_some, rTr, onTr, x_leaves h ht, bi_if, gTr0, rSt, v_st h ht, I_inj, on0, x_minuteOf h hn2, I_sub, I_max, I_add]
      by_cases c1 : leaves V0 (evT V0 n) s
      · rw [if_pos c1]
        by_cases c2 : st V0 (evT V0 n) (evS V0 n) = s
        · rw [if_pos c2]
          have g2 := gap_y h h1 hn2 ⟨c1, c2⟩
          by_cases d : la = -1
          · rw [if_pos d] at g2 ⊢
            exact ⟨_, rfl, _, _, rfl, g2, by omega, by omega, by omega, by omega⟩
          · rw [if_neg d] at g2 ⊢
            exact ⟨_, rfl, _, _, rfl, g2, by omega, by omega, by omega, by omega⟩
        · rw [if_neg c2]
          exact ⟨_, rfl, la, lo, rfl, gap_n h1 (fun q => c2 q.2), h2, h3, h4, h5⟩
      · rw [if_neg c1]
        exact ⟨_, rfl, la, lo, rfl, gap_n h1 (fun q => c1 q.1), h2, h3, h4, h5⟩) (fun q hS => by
      obtain ⟨la, lo, rfl, h1, h2, h3, h4, h5⟩ := hS
      refine ⟨I lo, ?_, la, lo, rfl, h1⟩
      unfold fX0_longestWait_L16
      simp (disch := omega) only [I_le, if_pos, gI0_4, v_ne h, Option.bind_some])
  exact ⟨la, lo, by rw [h1, h2], h3⟩
theorem x_directL (h : Rel V0 V) (hs : 0 ≤ s ∧ s < 10) (ht0 : 0 ≤ t ∧ t < 10) : ∃ la lo, iter (fX0_direct_L30 (Wd b V lw R) (some b) (I s) (I t) (I y)) FUEL (I 0, I 0, I (-1), I 0) = some (I (cnt (fun e => decide (evQ V0 (fun r => goes V0 r s t) s e)) (nE V0)), I lo) ∧ gapS (fun x => ∃ i, i < nE V0 ∧ evQ V0 (fun r => goes V0 r s t) s i ∧ evM V0 i = x) la lo := by
  have hne := ne_b h
  have hn := n48 h
  obtain ⟨r, h1, la, lo, h2, h3⟩ := iter_for (b := fX0_direct_L30 (Wd b V lw R) (some b) (I s) (I t) (I y)) (s := (I 0, I 0, I (-1), I 0)) (fun n q => ∃ la lo : Int, q = (I (cnt (fun e => decide (evQ V0 (fun r => goes V0 r s t) s e)) n), I lo, I la, I (n : Int)) ∧ gapS (fun x => ∃ i, i < n ∧ evQ V0 (fun r => goes V0 r s t) s i ∧ evM V0 i = x) la lo ∧ -1 ≤ la ∧ la ≤ 1439 ∧ 0 ≤ lo ∧ lo ≤ 1439) (fun r => ∃ la lo, r = (I (cnt (fun e => decide (evQ V0 (fun r => goes V0 r s t) s e)) (nE V0)), I lo) ∧ gapS (fun x => ∃ i, i < nE V0 ∧ evQ V0 (fun r => goes V0 r s t) s i ∧ evM V0 i = x) la lo) (nE V0) (by omega) ⟨-1, 0, rfl, Or.inl ⟨rfl, fun x hx => by obtain ⟨i, hi, _⟩ := hx; omega, rfl⟩, by omega, by omega, by omega, by omega⟩ (fun n q hS hn2 => by
      obtain ⟨la, lo, rfl, h1, h2, h3, h4, h5⟩ := hS
      have ht := et_b h hn2
      have hk := es_b h hn2
      have h48 := r48 h ht
      have hsm := sm2 h ht
      have hst := st_b h ht hk
      have hm := evM_b h hn2
      have hla := gap_ev h h1 hn2
      unfold fX0_direct_L30
      simp (disch := omega) only [k_1, k_0, I_neg, I_le, if_neg, gI0_4, v_ne h, gR0_0, gR0_1, gR0_2, rA2, rA3, tn, v_et h hn2, v_es h hn2, Option.bind_some, rTr, onTr, x_goes h ht, bi_if, gTr0, rSt, v_st h ht, I_inj, on0, x_minuteOf h hn2, I_sub, I_max, I_add]
      by_cases c1 : goes V0 (evT V0 n) s t
      · rw [if_pos c1]
        by_cases c2 : st V0 (evT V0 n) (evS V0 n) = s
        · rw [if_pos c2]
          have g2 := gap_y h h1 hn2 ⟨c1, c2⟩
          have ec : cnt (fun e => decide (evQ V0 (fun r => goes V0 r s t) s e)) (n + 1) = cnt (fun e => decide (evQ V0 (fun r => goes V0 r s t) s e)) n + 1 := by
            rw [cnt, if_pos (decide_eq_true ⟨c1, c2⟩)]
          rw [ec]
          by_cases d : la = -1
          · rw [if_pos d] at g2 ⊢
            exact ⟨_, rfl, _, _, rfl, g2, by omega, by omega, by omega, by omega⟩
          · rw [if_neg d] at g2 ⊢
            exact ⟨_, rfl, _, _, rfl, g2, by omega, by omega, by omega, by omega⟩
        · rw [if_neg c2]
          have ec : cnt (fun e => decide (evQ V0 (fun r => goes V0 r s t) s e)) (n + 1) = cnt (fun e => decide (evQ V0 (fun r => goes V0 r s t) s e)) n := by
            rw [cnt, if_neg (by rw [decide_eq_true_iff]; exact fun q => c2 q.2), Int.add_zero]
          rw [ec]
          exact ⟨_, rfl, la, lo, rfl, gap_n h1 (fun q => c2 q.2), h2, h3, h4, h5⟩
      · rw [if_neg c1]
        have ec : cnt (fun e => decide (evQ V0 (fun r => goes V0 r s t) s e)) (n + 1) = cnt (fun e => decide (evQ V0 (fun r => goes V0 r s t) s e)) n := by
          rw [cnt, if_neg (by rw [decide_eq_true_iff]; exact fun q => c1 q.1), Int.add_zero]
        rw [ec]
        exact ⟨_, rfl, la, lo, rfl, gap_n h1 (fun q => c1 q.1), h2, h3, h4, h5⟩) (fun q hS => by
      obtain ⟨la, lo, rfl, h1, h2, h3, h4, h5⟩ := hS
      refine ⟨_, ?_, la, lo, rfl, h1⟩
      unfold fX0_direct_L30
      simp (disch := omega) only [I_le, if_pos, gI0_4, v_ne h, Option.bind_some])
  exact ⟨la, lo, by rw [h1, h2], h3⟩
end DW
