set_option maxRecDepth 100000
set_option linter.unusedVariables false
theorem metX0_in (X : Gx) {m : Hp} {nx : Nat} {a0 : Int32} {a1 : Int32} {rv : Int32} (h : fX0_in a0 a1 = some rv) : Con X (1) yX0_in cX0_in 2 ((Option.some FieldType.boolean)) [.inl a0, .inl a1] m nx (some (.inl rv)) m 0 0 := by
  refine Con.of (own := RX0) (nm := "in") (L := [some (.inl a0), some (.inl a1)]) (by decide +kernel) rfl rfl (Nat.le_of_ble_eq_true rfl) (ent_of 0 rfl) ?_
  intro cx F
  refine G_iload_n F dX0_in_0 rfl ?_
  refine G_if_lt F (tgt := 13) dX0_in_1 (by decide) (fun c1 => ?_) (fun c1 => ?_)
  · have h := itt c1 h
    refine G_iconst F (v := (0 : Int32)) dX0_in_13 (by decide) ?_
    cases h
    exact G_zret F rfl (Or.inl rfl) (Nat.le_refl _) (Nat.le_refl _) rfl dX0_in_14
  · have h := itf c1 h
    refine G_iload_n F dX0_in_4 rfl ?_
    refine G_iload_n F dX0_in_5 rfl ?_
    refine G_icmp_ge F (tgt := 13) dX0_in_6 (by decide) (fun c2 => ?_) (fun c2 => ?_)
    · have h := itt c2 h
      refine G_iconst F (v := (0 : Int32)) dX0_in_13 (by decide) ?_
      cases h
      exact G_zret F rfl (Or.inl rfl) (Nat.le_refl _) (Nat.le_refl _) rfl dX0_in_14
    · have h := itf c2 h
      refine G_iconst F (v := (1 : Int32)) dX0_in_9 (by decide) ?_
      refine G_goto F (tgt := 14) dX0_in_10 (by decide) ?_
      cases h
      exact G_zret F rfl (Or.inr rfl) (Nat.le_refl _) (Nat.le_refl _) rfl dX0_in_14

theorem metX0_within (X : Gx) {m : Hp} {nx : Nat} {a0 : Int32} {a1 : Int32} {a2 : Int32} {rv : Int32} (h : fX0_within a0 a1 a2 = some rv) : Con X (1) yX0_within cX0_within 3 ((Option.some FieldType.boolean)) [.inl a0, .inl a1, .inl a2] m nx (some (.inl rv)) m 0 0 := by
  refine Con.of (own := RX0) (nm := "within") (L := [some (.inl a0), some (.inl a1), some (.inl a2)]) (by decide +kernel) rfl rfl (Nat.le_of_ble_eq_true rfl) (ent_of 0 rfl) ?_
  intro cx F
  refine G_iload_n F dX0_within_0 rfl ?_
  refine G_iload_n F dX0_within_1 rfl ?_
  refine G_icmp_lt F (tgt := 14) dX0_within_2 (by decide) (fun c1 => ?_) (fun c1 => ?_)
  · have h := itt c1 h
    refine G_iconst F (v := (0 : Int32)) dX0_within_14 (by decide) ?_
    cases h
    exact G_zret F rfl (Or.inl rfl) (Nat.le_refl _) (Nat.le_refl _) rfl dX0_within_15
  · have h := itf c1 h
    refine G_iload_n F dX0_within_5 rfl ?_
    refine G_iload_n F dX0_within_6 rfl ?_
    refine G_icmp_gt F (tgt := 14) dX0_within_7 (by decide) (fun c2 => ?_) (fun c2 => ?_)
    · have h := itt c2 h
      refine G_iconst F (v := (0 : Int32)) dX0_within_14 (by decide) ?_
      cases h
      exact G_zret F rfl (Or.inl rfl) (Nat.le_refl _) (Nat.le_refl _) rfl dX0_within_15
    · have h := itf c2 h
      refine G_iconst F (v := (1 : Int32)) dX0_within_10 (by decide) ?_
      refine G_goto F (tgt := 15) dX0_within_11 (by decide) ?_
      cases h
      exact G_zret F rfl (Or.inr rfl) (Nat.le_refl _) (Nat.le_refl _) rfl dX0_within_15

theorem metX0_has (X : Gx) {m : Hp} {nx : Nat} {a0 : Int32} {a1 : Int32} {rv : Int32} (h : fX0_has a0 a1 = some rv) : Con X (1) yX0_has cX0_has 2 ((Option.some FieldType.boolean)) [.inl a0, .inl a1] m nx (some (.inl rv)) m 0 0 := by
  refine Con.of (own := RX0) (nm := "has") (L := [some (.inl a0), some (.inl a1)]) (by decide +kernel) rfl rfl (Nat.le_of_ble_eq_true rfl) (ent_of 0 rfl) ?_
  intro cx F
  refine G_iload_n F dX0_has_0 rfl ?_
  refine G_iload_n F dX0_has_1 rfl ?_
  refine G_ishr F dX0_has_2 ?_
  refine G_iconst F (v := (1 : Int32)) dX0_has_3 (by decide) ?_
  refine G_iand F dX0_has_4 ?_
  refine G_iconst F (v := (1 : Int32)) dX0_has_5 (by decide) ?_
  refine G_icmp_ne F (tgt := 13) dX0_has_6 (by decide) (fun c1 => ?_) (fun c1 => ?_)
  · have h := itf c1 h
    refine G_iconst F (v := (0 : Int32)) dX0_has_13 (by decide) ?_
    cases h
    exact G_zret F rfl (Or.inl rfl) (Nat.le_refl _) (Nat.le_refl _) rfl dX0_has_14
  · have h := itt c1 h
    refine G_iconst F (v := (1 : Int32)) dX0_has_9 (by decide) ?_
    refine G_goto F (tgt := 14) dX0_has_10 (by decide) ?_
    cases h
    exact G_zret F rfl (Or.inr rfl) (Nat.le_refl _) (Nat.le_refl _) rfl dX0_has_14

theorem metX0_held (X : Gx) {m : Hp} {nx : Nat} {a0 : Int32} {a1 : Int32} {rv : Int32} (h : fX0_held a0 a1 = some rv) : Con X (2) yX0_held cX0_held 2 ((Option.some FieldType.int)) [.inl a0, .inl a1] m nx (some (.inl rv)) m 0 0 := by
  refine Con.of (own := RX0) (nm := "held") (L := [some (.inl a0), some (.inl a1)]) (by decide +kernel) rfl rfl (Nat.le_of_ble_eq_true rfl) (ent_of 0 rfl) ?_
  intro cx F
  refine G_iconst F (v := (0 : Int32)) dX0_held_0 (by decide) ?_
  refine G_iload_n F dX0_held_1 rfl ?_
  refine G_iload_n F dX0_held_2 rfl ?_
  refine G_mmin F q990 q517 q113 q518 (by omega) (Nat.le_of_ble_eq_true rfl) ⟨by omega, by omega⟩ dX0_held_3 ?_
  refine G_mmax F q991 q514 q113 q515 (by omega) (Nat.le_of_ble_eq_true rfl) ⟨by omega, by omega⟩ dX0_held_6 ?_
  cases h
  exact G_iret F rfl (Nat.le_refl _) (Nat.le_refl _) rfl dX0_held_9

theorem metX0_isTrain (X : Gx) {m : Hp} {nx : Nat} {a0 : Option Nat} {a1 : Int32} {rv : Int32} (h : fX0_isTrain m a0 a1 = some rv) : Con X (2) yX0_isTrain cX0_isTrain 2 ((Option.some FieldType.boolean)) [.inr a0, .inl a1] m nx (some (.inl rv)) m 0 0 := by
  refine Con.of (own := RX0) (nm := "isTrain") (L := [some (.inr a0), some (.inl a1)]) (by decide +kernel) rfl rfl (Nat.le_of_ble_eq_true rfl) (ent_of 0 rfl) ?_
  intro cx F
  refine G_iload_n F dX0_isTrain_0 rfl ?_
  refine G_aload_n F dX0_isTrain_1 rfl ?_
  obtain ⟨v1, e_v1, h⟩ := bnd h
  refine G_getI F okX0 (f := 3) (by decide) q335 rfl dX0_isTrain_2 e_v1 ?_
  obtain ⟨v2, e_v2, h⟩ := bnd h
  refine G_callSv F (As := [.inl a1, .inl v1]) (st := []) (metX0_in X e_v2) (lw_S q409 q410 q102 q411) hdfX0_in ⟨by omega, by decide⟩ rfl (Nat.le_of_ble_eq_true rfl) ⟨by omega, by omega⟩ dX0_isTrain_5 ?_
  obtain ⟨z3, e_z3, h⟩ := bnd h
  have hz_ := hp_z_of e_z3
  cases h
  exact G_zretz F rfl hz_ (Nat.le_refl _) (Nat.le_refl _) rfl dX0_isTrain_8

theorem metX0_isStation (X : Gx) {m : Hp} {nx : Nat} {a0 : Int32} {rv : Int32} (h : fX0_isStation a0 = some rv) : Con X (2) yX0_isStation cX0_isStation 1 ((Option.some FieldType.boolean)) [.inl a0] m nx (some (.inl rv)) m 0 0 := by
  refine Con.of (own := RX0) (nm := "isStation") (L := [some (.inl a0)]) (by decide +kernel) rfl rfl (Nat.le_of_ble_eq_true rfl) (ent_of 0 rfl) ?_
  intro cx F
  refine G_iload_n F dX0_isStation_0 rfl ?_
  refine G_bipush F (v := (10 : Int32)) dX0_isStation_1 (by decide) ?_
  obtain ⟨v1, e_v1, h⟩ := bnd h
  refine G_callSv F (As := [.inl a0, .inl (10 : Int32)]) (st := []) (metX0_in X e_v1) (lw_S q409 q410 q102 q411) hdfX0_in ⟨by omega, by decide⟩ rfl (Nat.le_of_ble_eq_true rfl) ⟨by omega, by omega⟩ dX0_isStation_3 ?_
  obtain ⟨z2, e_z2, h⟩ := bnd h
  have hz_ := hp_z_of e_z2
  cases h
  exact G_zretz F rfl hz_ (Nat.le_refl _) (Nat.le_refl _) rfl dX0_isStation_6

theorem metX0_areTwo (X : Gx) {m : Hp} {nx : Nat} {a0 : Int32} {a1 : Int32} {rv : Int32} (h : fX0_areTwo a0 a1 = some rv) : Con X (3) yX0_areTwo cX0_areTwo 2 ((Option.some FieldType.boolean)) [.inl a0, .inl a1] m nx (some (.inl rv)) m 0 0 := by
  refine Con.of (own := RX0) (nm := "areTwo") (L := [some (.inl a0), some (.inl a1)]) (by decide +kernel) rfl rfl (Nat.le_of_ble_eq_true rfl) (ent_of 0 rfl) ?_
  intro cx F
  refine G_iload_n F dX0_areTwo_0 rfl ?_
  obtain ⟨v1, e_v1, h⟩ := bnd h
  refine G_callSv F (As := [.inl a0]) (st := []) (metX0_isStation X e_v1) (lw_S q415 q416 q102 q417) hdfX0_isStation ⟨by omega, by decide⟩ rfl (Nat.le_of_ble_eq_true rfl) ⟨by omega, by omega⟩ dX0_areTwo_1 ?_
  refine G_if_eq F (tgt := 23) dX0_areTwo_4 (by decide) (fun c2 => ?_) (fun c2 => ?_)
  · have h := itt c2 h
    refine G_iconst F (v := (0 : Int32)) dX0_areTwo_23 (by decide) ?_
    cases h
    exact G_zret F rfl (Or.inl rfl) (Nat.le_refl _) (Nat.le_refl _) rfl dX0_areTwo_24
  · have h := itf c2 h
    refine G_iload_n F dX0_areTwo_7 rfl ?_
    obtain ⟨v3, e_v3, h⟩ := bnd h
    refine G_callSv F (As := [.inl a1]) (st := []) (metX0_isStation X e_v3) (lw_S q415 q416 q102 q417) hdfX0_isStation ⟨by omega, by decide⟩ rfl (Nat.le_of_ble_eq_true rfl) ⟨by omega, by omega⟩ dX0_areTwo_8 ?_
    refine G_if_eq F (tgt := 23) dX0_areTwo_11 (by decide) (fun c4 => ?_) (fun c4 => ?_)
    · have h := itt c4 h
      refine G_iconst F (v := (0 : Int32)) dX0_areTwo_23 (by decide) ?_
      cases h
      exact G_zret F rfl (Or.inl rfl) (Nat.le_refl _) (Nat.le_refl _) rfl dX0_areTwo_24
    · have h := itf c4 h
      refine G_iload_n F dX0_areTwo_14 rfl ?_
      refine G_iload_n F dX0_areTwo_15 rfl ?_
      refine G_icmp_eq F (tgt := 23) dX0_areTwo_16 (by decide) (fun c5 => ?_) (fun c5 => ?_)
      · have h := itt c5 h
        refine G_iconst F (v := (0 : Int32)) dX0_areTwo_23 (by decide) ?_
        cases h
        exact G_zret F rfl (Or.inl rfl) (Nat.le_refl _) (Nat.le_refl _) rfl dX0_areTwo_24
      · have h := itf c5 h
        refine G_iconst F (v := (1 : Int32)) dX0_areTwo_19 (by decide) ?_
        refine G_goto F (tgt := 24) dX0_areTwo_20 (by decide) ?_
        cases h
        exact G_zret F rfl (Or.inr rfl) (Nat.le_refl _) (Nat.le_refl _) rfl dX0_areTwo_24

theorem metX0_minuteOf (X : Gx) {m : Hp} {nx : Nat} {a0 : Option Nat} {a1 : Int32} {rv : Int32} (h : fX0_minuteOf m a0 a1 = some rv) : Con X (1) yX0_minuteOf cX0_minuteOf 2 ((Option.some FieldType.int)) [.inr a0, .inl a1] m nx (some (.inl rv)) m 0 0 := by
  refine Con.of (own := RX0) (nm := "minuteOf") (L := [some (.inr a0), some (.inl a1)]) (by decide +kernel) rfl rfl (Nat.le_of_ble_eq_true rfl) (ent_of 0 rfl) ?_
  intro cx F
  refine G_aload_n F dX0_minuteOf_0 rfl ?_
  obtain ⟨v1, e_v1, h⟩ := bnd h
  refine G_getR F okX0 (f := 0) (by decide) q328 rfl dX0_minuteOf_1 e_v1 ?_
  refine G_aload_n F dX0_minuteOf_4 rfl ?_
  obtain ⟨v2, e_v2, h⟩ := bnd h
  refine G_getR F okX0 (f := 1) (by decide) q330 rfl dX0_minuteOf_5 e_v2 ?_
  refine G_iload_n F dX0_minuteOf_8 rfl ?_
  obtain ⟨v3, e_v3, h⟩ := bnd h
  refine G_iald F dX0_minuteOf_9 e_v3 ?_
  obtain ⟨v4, e_v4, h⟩ := bnd h
  refine G_aald F (t := 5) (by decide) dX0_minuteOf_10 e_v4 ?_
  obtain ⟨v5, e_v5, h⟩ := bnd h
  refine G_getRN F okX6 (f := 1) (by decide) q301 rfl dX0_minuteOf_11 e_v5 ?_
  refine G_aload_n F dX0_minuteOf_14 rfl ?_
  obtain ⟨v6, e_v6, h⟩ := bnd h
  refine G_getR F okX0 (f := 2) (by decide) q332 rfl dX0_minuteOf_15 e_v6 ?_
  refine G_iload_n F dX0_minuteOf_18 rfl ?_
  obtain ⟨v7, e_v7, h⟩ := bnd h
  refine G_iald F dX0_minuteOf_19 e_v7 ?_
  obtain ⟨v8, e_v8, h⟩ := bnd h
  refine G_iald F dX0_minuteOf_20 e_v8 ?_
  cases h
  exact G_iret F rfl (Nat.le_refl _) (Nat.le_refl _) rfl dX0_minuteOf_21

theorem metX0_laysEvents (X : Gx) {m : Hp} {nx : Nat} {a0 : Option Nat} {m_ : Hp} (h : fX0_laysEvents m a0 = some m_) : Con X (2) yX0_laysEvents cX0_laysEvents 4 ((none : Option FieldType)) [.inr a0] m nx none m_ 0 0 := by
  refine Con.of (own := RX0) (nm := "laysEvents") (L := [some (.inr a0), none, none, none]) (by decide +kernel) rfl rfl (Nat.le_of_ble_eq_true rfl) (ent_of 3 rfl) ?_
  intro cx F
  refine G_aload_n F dX0_laysEvents_0 rfl ?_
  refine G_iconst F (v := (0 : Int32)) dX0_laysEvents_1 (by decide) ?_
  obtain ⟨m1, e_m1, h⟩ := bnd h
  refine G_putV F okX0 (f := 4) (by decide) q337 rfl rfl dX0_laysEvents_2 (vfit_int _) e_m1 ?_
  refine G_iconst F (v := (0 : Int32)) dX0_laysEvents_5 (by decide) ?_
  refine G_istore_n F (L2 := [some (.inr a0), some (.inl (0 : Int32)), none, none]) dX0_laysEvents_6 (by decide) rfl ?_
  obtain ⟨r2, hr2, h⟩ := bnd h
  have KE2 : ∀ (m36 : Hp), m36 = r2 → G X cx 4 (Qm X cx none m_ nx 0 0) (0) (0) m36 (nx) [none, none, none, none] [] 130 := by
    intro m36 hq
    subst hq
    try dsimp only at h
    cases h
    exact G_vret F rfl (Nat.le_refl _) (Nat.le_refl _) rfl dX0_laysEvents_130
  have KB2 : ∀ s o2, fX0_laysEvents_L7 a0 s = some o2 → (∀ s', o2 = Sum.inl s' → (fun (s : (Int32 × Hp)) => match s with | (s1_2, m2) => G X cx 4 (Qm X cx none m_ nx 0 0) (0) (0) m2 (nx) [some (.inr a0), some (.inl s1_2), none, none] [] 7) s') → (∀ q, o2 = Sum.inr q → q = r2) → (fun (s : (Int32 × Hp)) => match s with | (s1_2, m2) => G X cx 4 (Qm X cx none m_ nx 0 0) (0) (0) m2 (nx) [some (.inr a0), some (.inl s1_2), none, none] [] 7) s := by
    intro s o2 h hP2 hE2
    obtain ⟨s1_2, m2⟩ := s
    try dsimp only at hP2 hE2 ⊢
    refine G_iload_n F dX0_laysEvents_7 rfl ?_
    refine G_aload_n F dX0_laysEvents_8 rfl ?_
    obtain ⟨v3, e_v3, h⟩ := bnd h
    refine G_getI F okX0 (f := 3) (by decide) q335 rfl dX0_laysEvents_9 e_v3 ?_
    refine G_icmp_ge F (tgt := 130) dX0_laysEvents_12 (by decide) (fun c4 => ?_) (fun c4 => ?_)
    · have h := itt c4 h
      cases h
      exact G_sub F (L2 := [none, none, none, none]) trivial (KE2 _ (hE2 _ rfl))
    · have h := itf c4 h
      refine G_iconst F (v := (0 : Int32)) dX0_laysEvents_15 (by decide) ?_
      refine G_istore_n F (L2 := [some (.inr a0), some (.inl s1_2), some (.inl (0 : Int32)), none]) dX0_laysEvents_16 (by decide) rfl ?_
      obtain ⟨r5, hr5, h⟩ := bnd h
      have KE5 : ∀ (m35 : Hp), m35 = r5 → G X cx 4 (Qm X cx none m_ nx 0 0) (0) (0) m35 (nx) [some (.inr a0), some (.inl s1_2), none, none] [] 124 := by
        intro m35 hq
        subst hq
        try dsimp only at h
        refine G_iinc F (v := (s1_2 + (1 : Int32))) (L2 := [some (.inr a0), some (.inl (s1_2 + (1 : Int32))), none, none]) dX0_laysEvents_124 (by decide) rfl rfl rfl ?_
        refine G_goto F (tgt := 7) dX0_laysEvents_127 (by decide) ?_
        cases h
        exact G_sub F (L2 := [some (.inr a0), some (.inl (s1_2 + (1 : Int32))), none, none]) ⟨rfl, ⟨rfl, trivial⟩⟩ (hP2 _ rfl)
      have KB5 : ∀ s o5, fX0_laysEvents_L17 a0 s1_2 s = some o5 → (∀ s', o5 = Sum.inl s' → (fun (s : (Int32 × Hp)) => match s with | (s2_5, m5) => G X cx 4 (Qm X cx none m_ nx 0 0) (0) (0) m5 (nx) [some (.inr a0), some (.inl s1_2), some (.inl s2_5), none] [] 17) s') → (∀ q, o5 = Sum.inr q → q = r5) → (fun (s : (Int32 × Hp)) => match s with | (s2_5, m5) => G X cx 4 (Qm X cx none m_ nx 0 0) (0) (0) m5 (nx) [some (.inr a0), some (.inl s1_2), some (.inl s2_5), none] [] 17) s := by
        intro s o5 h hP5 hE5
        obtain ⟨s2_5, m5⟩ := s
        try dsimp only at hP5 hE5 ⊢
        refine G_iload_n F dX0_laysEvents_17 rfl ?_
        refine G_aload_n F dX0_laysEvents_18 rfl ?_
        obtain ⟨v6, e_v6, h⟩ := bnd h
        refine G_getR F okX0 (f := 0) (by decide) q328 rfl dX0_laysEvents_19 e_v6 ?_
        refine G_iload_n F dX0_laysEvents_22 rfl ?_
        obtain ⟨v7, e_v7, h⟩ := bnd h
        refine G_aald F (t := 5) (by decide) dX0_laysEvents_23 e_v7 ?_
        obtain ⟨v8, e_v8, h⟩ := bnd h
        refine G_getIN F okX6 (f := 2) (by decide) q305 rfl dX0_laysEvents_24 e_v8 ?_
        refine G_icmp_ge F (tgt := 124) dX0_laysEvents_27 (by decide) (fun c9 => ?_) (fun c9 => ?_)
        · have h := itt c9 h
          cases h
          exact G_sub F (L2 := [some (.inr a0), some (.inl s1_2), none, none]) ⟨rfl, ⟨rfl, trivial⟩⟩ (KE5 _ (hE5 _ rfl))
        · have h := itf c9 h
          refine G_aload_n F dX0_laysEvents_30 rfl ?_
          obtain ⟨v10, e_v10, h⟩ := bnd h
          refine G_getI F okX0 (f := 4) (by decide) q337 rfl dX0_laysEvents_31 e_v10 ?_
          refine G_istore_n F (L2 := [some (.inr a0), some (.inl s1_2), some (.inl s2_5), some (.inl v10)]) dX0_laysEvents_34 (by decide) rfl ?_
          obtain ⟨r11, hr11, h⟩ := bnd h
          have KE11 : ∀ (v27 : Int32) (m28 : Hp), (v27, m28) = r11 → G X cx 4 (Qm X cx none m_ nx 0 0) (0) (0) m28 (nx) [some (.inr a0), some (.inl s1_2), some (.inl s2_5), some (.inl v27)] [] 94 := by
            intro v27 m28 hq
            subst hq
            try dsimp only at h
            refine G_aload_n F dX0_laysEvents_94 rfl ?_
            obtain ⟨v29, e_v29, h⟩ := bnd h
            refine G_getR F okX0 (f := 1) (by decide) q330 rfl dX0_laysEvents_95 e_v29 ?_
            refine G_iload_n F dX0_laysEvents_98 rfl ?_
            refine G_iload_n F dX0_laysEvents_99 rfl ?_
            obtain ⟨m30, e_m30, h⟩ := bnd h
            refine G_iast F dX0_laysEvents_100 e_m30 ?_
            refine G_aload_n F dX0_laysEvents_101 rfl ?_
            obtain ⟨v31, e_v31, h⟩ := bnd h
            refine G_getR F okX0 (f := 2) (by decide) q332 rfl dX0_laysEvents_102 e_v31 ?_
            refine G_iload_n F dX0_laysEvents_105 rfl ?_
            refine G_iload_n F dX0_laysEvents_106 rfl ?_
            obtain ⟨m32, e_m32, h⟩ := bnd h
            refine G_iast F dX0_laysEvents_107 e_m32 ?_
            refine G_aload_n F dX0_laysEvents_108 rfl ?_
            refine G_dup F dX0_laysEvents_109 ?_
            obtain ⟨v33, e_v33, h⟩ := bnd h
            refine G_getI F okX0 (f := 4) (by decide) q337 rfl dX0_laysEvents_110 e_v33 ?_
            refine G_iconst F (v := (1 : Int32)) dX0_laysEvents_113 (by decide) ?_
            refine G_iadd F dX0_laysEvents_114 ?_
            obtain ⟨m34, e_m34, h⟩ := bnd h
            refine G_putV F okX0 (f := 4) (by decide) q337 rfl rfl dX0_laysEvents_115 (vfit_int _) e_m34 ?_
            refine G_iinc F (v := (s2_5 + (1 : Int32))) (L2 := [some (.inr a0), some (.inl s1_2), some (.inl (s2_5 + (1 : Int32))), some (.inl v27)]) dX0_laysEvents_118 (by decide) rfl rfl rfl ?_
            refine G_goto F (tgt := 17) dX0_laysEvents_121 (by decide) ?_
            cases h
            exact G_sub F (L2 := [some (.inr a0), some (.inl s1_2), some (.inl (s2_5 + (1 : Int32))), none]) ⟨rfl, ⟨rfl, ⟨rfl, trivial⟩⟩⟩ (hP5 _ rfl)
          have KB11 : ∀ s o11, fX0_laysEvents_L35 a0 s1_2 s2_5 s = some o11 → (∀ s', o11 = Sum.inl s' → (fun (s : (Int32 × Hp)) => match s with | (s3_11, m11) => G X cx 4 (Qm X cx none m_ nx 0 0) (0) (0) m11 (nx) [some (.inr a0), some (.inl s1_2), some (.inl s2_5), some (.inl s3_11)] [] 35) s') → (∀ q, o11 = Sum.inr q → q = r11) → (fun (s : (Int32 × Hp)) => match s with | (s3_11, m11) => G X cx 4 (Qm X cx none m_ nx 0 0) (0) (0) m11 (nx) [some (.inr a0), some (.inl s1_2), some (.inl s2_5), some (.inl s3_11)] [] 35) s := by
            intro s o11 h hP11 hE11
            obtain ⟨s3_11, m11⟩ := s
            try dsimp only at hP11 hE11 ⊢
            refine G_iload_n F dX0_laysEvents_35 rfl ?_
            refine G_if_le F (tgt := 94) dX0_laysEvents_36 (by decide) (fun c12 => ?_) (fun c12 => ?_)
            · have h := itt c12 h
              cases h
              exact G_sub F (L2 := [some (.inr a0), some (.inl s1_2), some (.inl s2_5), some (.inl s3_11)]) ⟨rfl, ⟨rfl, ⟨rfl, ⟨rfl, trivial⟩⟩⟩⟩ (KE11 _ _ (hE11 _ rfl))
            · have h := itf c12 h
              refine G_aload_n F dX0_laysEvents_39 rfl ?_
              refine G_iload_n F dX0_laysEvents_40 rfl ?_
              refine G_iconst F (v := (1 : Int32)) dX0_laysEvents_41 (by decide) ?_
              refine G_isub F dX0_laysEvents_42 ?_
              obtain ⟨v13, e_v13, h⟩ := bnd h
              obtain ⟨hc_v13, e_v13⟩ := hp_on_of e_v13
              refine G_callVv F (As := [.inl (s3_11 - (1 : Int32))]) (st := []) (metX0_minuteOf X e_v13) hc_v13 rfl rfl (lw_V q870 q872 qs20 q102 q873) hdfX0_minuteOf ⟨by omega, by decide⟩ rfl (Nat.le_of_ble_eq_true rfl) ⟨by omega, by omega⟩ dX0_laysEvents_43 ?_
              refine G_aload_n F dX0_laysEvents_46 rfl ?_
              obtain ⟨v14, e_v14, h⟩ := bnd h
              refine G_getR F okX0 (f := 0) (by decide) q328 rfl dX0_laysEvents_47 e_v14 ?_
              refine G_iload_n F dX0_laysEvents_50 rfl ?_
              obtain ⟨v15, e_v15, h⟩ := bnd h
              refine G_aald F (t := 5) (by decide) dX0_laysEvents_51 e_v15 ?_
              obtain ⟨v16, e_v16, h⟩ := bnd h
              refine G_getRN F okX6 (f := 1) (by decide) q301 rfl dX0_laysEvents_52 e_v16 ?_
              refine G_iload_n F dX0_laysEvents_55 rfl ?_
              obtain ⟨v17, e_v17, h⟩ := bnd h
              refine G_iald F dX0_laysEvents_56 e_v17 ?_
              refine G_icmp_le F (tgt := 94) dX0_laysEvents_57 (by decide) (fun c18 => ?_) (fun c18 => ?_)
              · have h := itt c18 h
                cases h
                exact G_sub F (L2 := [some (.inr a0), some (.inl s1_2), some (.inl s2_5), some (.inl s3_11)]) ⟨rfl, ⟨rfl, ⟨rfl, ⟨rfl, trivial⟩⟩⟩⟩ (KE11 _ _ (hE11 _ rfl))
              · have h := itf c18 h
                refine G_aload_n F dX0_laysEvents_60 rfl ?_
                obtain ⟨v19, e_v19, h⟩ := bnd h
                refine G_getR F okX0 (f := 1) (by decide) q330 rfl dX0_laysEvents_61 e_v19 ?_
                refine G_iload_n F dX0_laysEvents_64 rfl ?_
                refine G_aload_n F dX0_laysEvents_65 rfl ?_
                obtain ⟨v20, e_v20, h⟩ := bnd h
                refine G_getR F okX0 (f := 1) (by decide) q330 rfl dX0_laysEvents_66 e_v20 ?_
                refine G_iload_n F dX0_laysEvents_69 rfl ?_
                refine G_iconst F (v := (1 : Int32)) dX0_laysEvents_70 (by decide) ?_
                refine G_isub F dX0_laysEvents_71 ?_
                obtain ⟨v21, e_v21, h⟩ := bnd h
                refine G_iald F dX0_laysEvents_72 e_v21 ?_
                obtain ⟨m22, e_m22, h⟩ := bnd h
                refine G_iast F dX0_laysEvents_73 e_m22 ?_
                refine G_aload_n F dX0_laysEvents_74 rfl ?_
                obtain ⟨v23, e_v23, h⟩ := bnd h
                refine G_getR F okX0 (f := 2) (by decide) q332 rfl dX0_laysEvents_75 e_v23 ?_
                refine G_iload_n F dX0_laysEvents_78 rfl ?_
                refine G_aload_n F dX0_laysEvents_79 rfl ?_
                obtain ⟨v24, e_v24, h⟩ := bnd h
                refine G_getR F okX0 (f := 2) (by decide) q332 rfl dX0_laysEvents_80 e_v24 ?_
                refine G_iload_n F dX0_laysEvents_83 rfl ?_
                refine G_iconst F (v := (1 : Int32)) dX0_laysEvents_84 (by decide) ?_
                refine G_isub F dX0_laysEvents_85 ?_
                obtain ⟨v25, e_v25, h⟩ := bnd h
                refine G_iald F dX0_laysEvents_86 e_v25 ?_
                obtain ⟨m26, e_m26, h⟩ := bnd h
                refine G_iast F dX0_laysEvents_87 e_m26 ?_
                refine G_iinc F (v := (s3_11 + (-1 : Int32))) (L2 := [some (.inr a0), some (.inl s1_2), some (.inl s2_5), some (.inl (s3_11 + (-1 : Int32)))]) dX0_laysEvents_88 (by decide) rfl rfl rfl ?_
                refine G_goto F (tgt := 35) dX0_laysEvents_91 (by decide) ?_
                cases h
                exact G_sub F (L2 := [some (.inr a0), some (.inl s1_2), some (.inl s2_5), some (.inl (s3_11 + (-1 : Int32)))]) ⟨rfl, ⟨rfl, ⟨rfl, ⟨rfl, trivial⟩⟩⟩⟩ (hP11 _ rfl)
          have hI := iter_ok (fun (s : (Int32 × Hp)) => match s with | (s3_11, m11) => G X cx 4 (Qm X cx none m_ nx 0 0) (0) (0) m11 (nx) [some (.inr a0), some (.inl s1_2), some (.inl s2_5), some (.inl s3_11)] [] 35) (fun q => q = r11) KB11 _ _ _ hr11 rfl
          exact G_sub F (L2 := [some (.inr a0), some (.inl s1_2), some (.inl s2_5), some (.inl v10)]) ⟨rfl, ⟨rfl, ⟨rfl, ⟨rfl, trivial⟩⟩⟩⟩ hI
      have hI := iter_ok (fun (s : (Int32 × Hp)) => match s with | (s2_5, m5) => G X cx 4 (Qm X cx none m_ nx 0 0) (0) (0) m5 (nx) [some (.inr a0), some (.inl s1_2), some (.inl s2_5), none] [] 17) (fun q => q = r5) KB5 _ _ _ hr5 rfl
      exact G_sub F (L2 := [some (.inr a0), some (.inl s1_2), some (.inl (0 : Int32)), none]) ⟨rfl, ⟨rfl, ⟨rfl, trivial⟩⟩⟩ hI
  have hI := iter_ok (fun (s : (Int32 × Hp)) => match s with | (s1_2, m2) => G X cx 4 (Qm X cx none m_ nx 0 0) (0) (0) m2 (nx) [some (.inr a0), some (.inl s1_2), none, none] [] 7) (fun q => q = r2) KB2 _ _ _ hr2 rfl
  exact G_sub F (L2 := [some (.inr a0), some (.inl (0 : Int32)), none, none]) ⟨rfl, ⟨rfl, trivial⟩⟩ hI

theorem metX11_worth (X : Gx) {m : Hp} {nx : Nat} {a0 : Option Nat} {a1 : Option Nat} {rv : Int32} (h : fX11_worth m a0 a1 = some rv) : Con X (1) yX11_worth cX11_worth 2 ((Option.some FieldType.int)) [.inr a0, .inr a1] m nx (some (.inl rv)) m 0 0 := by
  refine Con.of (own := RX11) (nm := "worth") (L := [some (.inr a0), some (.inr a1)]) (by decide +kernel) rfl rfl (Nat.le_of_ble_eq_true rfl) (ent_of 0 rfl) ?_
  intro cx F
  refine G_aload_n F dX11_worth_0 rfl ?_
  obtain ⟨v1, e_v1, h⟩ := bnd h
  refine G_getI F okX11 (f := 0) (by decide) q614 rfl dX11_worth_1 e_v1 ?_
  cases h
  exact G_iret F rfl (Nat.le_refl _) (Nat.le_refl _) rfl dX11_worth_4

theorem metX2_value (X : Gx) {m : Hp} {nx : Nat} {a0 : Option Nat} {a1 : Int32} {rv : Int32} (h : fX2_value m a0 a1 = some rv) : Con X (1) yX2_value cX2_value 2 ((Option.some FieldType.int)) [.inr a0, .inl a1] m nx (some (.inl rv)) m 0 0 := by
  refine Con.of (own := RX2) (nm := "value") (L := [some (.inr a0), some (.inl a1)]) (by decide +kernel) rfl rfl (Nat.le_of_ble_eq_true rfl) (ent_of 0 rfl) ?_
  intro cx F
  refine G_iload_n F dX2_value_0 rfl ?_
  by_cases c1 : a1 = (102 : Int32)
  · have h := itt c1 h
    refine G_tabIn F (tgt := 126) dX2_value_1 (by rw [c1]; decide) (by rw [c1]; decide) (by rw [c1]; rfl) (by decide) ?_
    refine G_aload_n F dX2_value_126 rfl ?_
    obtain ⟨v2, e_v2, h⟩ := bnd h
    refine G_getI F okX2 (f := 7) (by decide) q153 rfl dX2_value_127 e_v2 ?_
    cases h
    exact G_iret F rfl (Nat.le_refl _) (Nat.le_refl _) rfl dX2_value_130
  have h := itf c1 h
  by_cases c3 : a1 = (107 : Int32)
  · have h := itt c3 h
    refine G_tabIn F (tgt := 106) dX2_value_1 (by rw [c3]; decide) (by rw [c3]; decide) (by rw [c3]; rfl) (by decide) ?_
    refine G_aload_n F dX2_value_106 rfl ?_
    obtain ⟨v4, e_v4, h⟩ := bnd h
    refine G_getI F okX2 (f := 3) (by decide) q149 rfl dX2_value_107 e_v4 ?_
    cases h
    exact G_iret F rfl (Nat.le_refl _) (Nat.le_refl _) rfl dX2_value_110
  have h := itf c3 h
  by_cases c5 : a1 = (108 : Int32)
  · have h := itt c5 h
    refine G_tabIn F (tgt := 111) dX2_value_1 (by rw [c5]; decide) (by rw [c5]; decide) (by rw [c5]; rfl) (by decide) ?_
    refine G_aload_n F dX2_value_111 rfl ?_
    obtain ⟨v6, e_v6, h⟩ := bnd h
    refine G_getI F okX2 (f := 4) (by decide) q150 rfl dX2_value_112 e_v6 ?_
    cases h
    exact G_iret F rfl (Nat.le_refl _) (Nat.le_refl _) rfl dX2_value_115
  have h := itf c5 h
  by_cases c7 : a1 = (110 : Int32)
  · have h := itt c7 h
    refine G_tabIn F (tgt := 116) dX2_value_1 (by rw [c7]; decide) (by rw [c7]; decide) (by rw [c7]; rfl) (by decide) ?_
    refine G_aload_n F dX2_value_116 rfl ?_
    obtain ⟨v8, e_v8, h⟩ := bnd h
    refine G_getI F okX2 (f := 5) (by decide) q151 rfl dX2_value_117 e_v8 ?_
    cases h
    exact G_iret F rfl (Nat.le_refl _) (Nat.le_refl _) rfl dX2_value_120
  have h := itf c7 h
  by_cases c9 : a1 = (112 : Int32)
  · have h := itt c9 h
    refine G_tabIn F (tgt := 121) dX2_value_1 (by rw [c9]; decide) (by rw [c9]; decide) (by rw [c9]; rfl) (by decide) ?_
    refine G_aload_n F dX2_value_121 rfl ?_
    obtain ⟨v10, e_v10, h⟩ := bnd h
    refine G_getI F okX2 (f := 6) (by decide) q152 rfl dX2_value_122 e_v10 ?_
    cases h
    exact G_iret F rfl (Nat.le_refl _) (Nat.le_refl _) rfl dX2_value_125
  have h := itf c9 h
  by_cases c11 : a1 = (114 : Int32)
  · have h := itt c11 h
    refine G_tabIn F (tgt := 96) dX2_value_1 (by rw [c11]; decide) (by rw [c11]; decide) (by rw [c11]; rfl) (by decide) ?_
    refine G_aload_n F dX2_value_96 rfl ?_
    obtain ⟨v12, e_v12, h⟩ := bnd h
    refine G_getI F okX2 (f := 1) (by decide) q147 rfl dX2_value_97 e_v12 ?_
    cases h
    exact G_iret F rfl (Nat.le_refl _) (Nat.le_refl _) rfl dX2_value_100
  have h := itf c11 h
  by_cases c13 : a1 = (115 : Int32)
  · have h := itt c13 h
    refine G_tabIn F (tgt := 101) dX2_value_1 (by rw [c13]; decide) (by rw [c13]; decide) (by rw [c13]; rfl) (by decide) ?_
    refine G_aload_n F dX2_value_101 rfl ?_
    obtain ⟨v14, e_v14, h⟩ := bnd h
    refine G_getI F okX2 (f := 2) (by decide) q148 rfl dX2_value_102 e_v14 ?_
    cases h
    exact G_iret F rfl (Nat.le_refl _) (Nat.le_refl _) rfl dX2_value_105
  have h := itf c13 h
  by_cases c15 : a1 = (121 : Int32)
  · have h := itt c15 h
    refine G_tabIn F (tgt := 131) dX2_value_1 (by rw [c15]; decide) (by rw [c15]; decide) (by rw [c15]; rfl) (by decide) ?_
    refine G_aload_n F dX2_value_131 rfl ?_
    obtain ⟨v16, e_v16, h⟩ := bnd h
    refine G_getI F okX2 (f := 8) (by decide) q154 rfl dX2_value_132 e_v16 ?_
    cases h
    exact G_iret F rfl (Nat.le_refl _) (Nat.le_refl _) rfl dX2_value_135
  have h := itf c15 h
  refine G_tabDef F (tgt := 136) dX2_value_1 [(102 : Int32), (107 : Int32), (108 : Int32), (110 : Int32), (112 : Int32), (114 : Int32), (115 : Int32), (121 : Int32)] (by decide) (by decide) (List.forall_mem_cons.mpr ⟨c1, List.forall_mem_cons.mpr ⟨c3, List.forall_mem_cons.mpr ⟨c5, List.forall_mem_cons.mpr ⟨c7, List.forall_mem_cons.mpr ⟨c9, List.forall_mem_cons.mpr ⟨c11, List.forall_mem_cons.mpr ⟨c13, List.forall_mem_cons.mpr ⟨c15, fa_nil⟩⟩⟩⟩⟩⟩⟩⟩) (by decide) ?_
  refine G_aload_n F dX2_value_136 rfl ?_
  obtain ⟨v17, e_v17, h⟩ := bnd h
  refine G_getI F okX2 (f := 9) (by decide) q155 rfl dX2_value_137 e_v17 ?_
  cases h
  exact G_iret F rfl (Nat.le_refl _) (Nat.le_refl _) rfl dX2_value_140

theorem metX12_worth (X : Gx) {m : Hp} {nx : Nat} {a0 : Option Nat} {a1 : Option Nat} {rv : Int32} (h : fX12_worth m a0 a1 = some rv) : Con X (2) yX12_worth cX12_worth 2 ((Option.some FieldType.int)) [.inr a0, .inr a1] m nx (some (.inl rv)) m 0 0 := by
  refine Con.of (own := RX12) (nm := "worth") (L := [some (.inr a0), some (.inr a1)]) (by decide +kernel) rfl rfl (Nat.le_of_ble_eq_true rfl) (ent_of 0 rfl) ?_
  intro cx F
  refine G_aload_n F dX12_worth_0 rfl ?_
  refine G_aload_n F dX12_worth_1 rfl ?_
  obtain ⟨v1, e_v1, h⟩ := bnd h
  refine G_getI F okX12 (f := 0) (by decide) q625 rfl dX12_worth_2 e_v1 ?_
  obtain ⟨v2, e_v2, h⟩ := bnd h
  obtain ⟨hc_v2, e_v2⟩ := hp_on_of e_v2
  refine G_callAv F (As := [.inl v1]) (st := []) (x := ⟨"MissedTrains$Asked", "value", "(I)I"⟩) (owner := "MissedTrains$Asked") (metX2_value X e_v2) hc_v2 rfl (lw_U q955 q957 q958 q959 q104 q960) q956 hdA_value ⟨by omega, by decide⟩ rfl (Nat.le_of_ble_eq_true rfl) ⟨by omega, by omega⟩ dX12_worth_5 ?_
  cases h
  exact G_iret F rfl (Nat.le_refl _) (Nat.le_refl _) rfl dX12_worth_8

theorem metX10_worked (X : Gx) {m : Hp} {nx : Nat} {a0 : Int32} {a1 : Int32} {a2 : Int32} {a3 : Option Nat} {rv : Int32} {m_ : Hp} (h : fX10_worked m a0 a1 a2 a3 = some (rv, m_)) : Con X (1) yX10_worked cX10_worked 4 ((Option.some FieldType.int)) [.inl a0, .inl a1, .inl a2, .inr a3] m nx (some (.inl rv)) m_ 0 0 := by
  refine Con.of (own := RX10) (nm := "worked") (L := [some (.inl a0), some (.inl a1), some (.inl a2), some (.inr a3)]) (by decide +kernel) rfl rfl (Nat.le_of_ble_eq_true rfl) (ent_of 0 rfl) ?_
  intro cx F
  refine G_iload_n F dX10_worked_0 rfl ?_
  by_cases c1 : a0 = (42 : Int32)
  · have h := itt c1 h
    refine G_tabIn F (tgt := 40) dX10_worked_1 (by rw [c1]; decide) (by rw [c1]; decide) (by rw [c1]; rfl) (by decide) ?_
    refine G_iload_n F dX10_worked_40 rfl ?_
    refine G_iload_n F dX10_worked_41 rfl ?_
    refine G_imul F dX10_worked_42 ?_
    cases h
    exact G_iret F rfl (Nat.le_refl _) (Nat.le_refl _) rfl dX10_worked_43
  have h := itf c1 h
  by_cases c2 : a0 = (43 : Int32)
  · have h := itt c2 h
    refine G_tabIn F (tgt := 32) dX10_worked_1 (by rw [c2]; decide) (by rw [c2]; decide) (by rw [c2]; rfl) (by decide) ?_
    refine G_iload_n F dX10_worked_32 rfl ?_
    refine G_iload_n F dX10_worked_33 rfl ?_
    refine G_iadd F dX10_worked_34 ?_
    cases h
    exact G_iret F rfl (Nat.le_refl _) (Nat.le_refl _) rfl dX10_worked_35
  have h := itf c2 h
  by_cases c3 : a0 = (45 : Int32)
  · have h := itt c3 h
    refine G_tabIn F (tgt := 36) dX10_worked_1 (by rw [c3]; decide) (by rw [c3]; decide) (by rw [c3]; rfl) (by decide) ?_
    refine G_iload_n F dX10_worked_36 rfl ?_
    refine G_iload_n F dX10_worked_37 rfl ?_
    refine G_isub F dX10_worked_38 ?_
    cases h
    exact G_iret F rfl (Nat.le_refl _) (Nat.le_refl _) rfl dX10_worked_39
  have h := itf c3 h
  refine G_tabDef F (tgt := 44) dX10_worked_1 [(42 : Int32), (43 : Int32), (45 : Int32)] (by decide) (by decide) (List.forall_mem_cons.mpr ⟨c1, List.forall_mem_cons.mpr ⟨c2, List.forall_mem_cons.mpr ⟨c3, fa_nil⟩⟩⟩) (by decide) ?_
  refine G_iload_n F dX10_worked_44 rfl ?_
  obtain ⟨p5, hp5, h⟩ := bnd h
  have K5 : ∀ (m4 : Hp), m4 = p5 → G X cx 4 (Qm X cx (some (.inl rv)) m_ nx 0 0) (0) (0) m4 (nx) [some (.inl a0), some (.inl a1), some (.inl a2), none] [] 53 := by
    intro m4 hq
    subst hq
    try dsimp only at h
    refine G_iload_n F dX10_worked_53 rfl ?_
    refine G_if_ne F (tgt := 61) dX10_worked_54 (by decide) (fun c6 => ?_) (fun c6 => ?_)
    · have h := itf c6 h
      refine G_iload_n F dX10_worked_61 rfl ?_
      refine G_bipush F (v := (47 : Int32)) dX10_worked_62 (by decide) ?_
      refine G_icmp_ne F (tgt := 73) dX10_worked_64 (by decide) (fun c7 => ?_) (fun c7 => ?_)
      · have h := itf c7 h
        refine G_iload_n F dX10_worked_73 rfl ?_
        refine G_iload_n F dX10_worked_74 rfl ?_
        by_cases c8 : a2 = 0
        · exact absurd (itt c8 h) (by intro q; cases q)
        have h := itf c8 h
        refine G_irem F c8 dX10_worked_75 ?_
        cases h
        exact G_iret F rfl (Nat.le_refl _) (Nat.le_refl _) rfl dX10_worked_76
      · have h := itt c7 h
        refine G_iload_n F dX10_worked_67 rfl ?_
        refine G_iload_n F dX10_worked_68 rfl ?_
        by_cases c9 : a2 = 0
        · exact absurd (itt c9 h) (by intro q; cases q)
        have h := itf c9 h
        refine G_idiv F c9 dX10_worked_69 ?_
        refine G_goto F (tgt := 76) dX10_worked_70 (by decide) ?_
        cases h
        exact G_iret F rfl (Nat.le_refl _) (Nat.le_refl _) rfl dX10_worked_76
    · have h := itt c6 h
      refine G_iconst F (v := (0 : Int32)) dX10_worked_57 (by decide) ?_
      refine G_goto F (tgt := 76) dX10_worked_58 (by decide) ?_
      cases h
      exact G_iret F rfl (Nat.le_refl _) (Nat.le_refl _) rfl dX10_worked_76
  have h := hp5
  clear hp5
  refine G_if_ne F (tgt := 53) dX10_worked_45 (by decide) (fun c10 => ?_) (fun c10 => ?_)
  · have h := itf c10 h
    have hq_ := Option.some.inj h
    exact G_sub F (L2 := [some (.inl a0), some (.inl a1), some (.inl a2), none]) ⟨rfl, ⟨rfl, ⟨rfl, trivial⟩⟩⟩ (K5 _ hq_)
  · have h := itt c10 h
    refine G_aload_n F dX10_worked_48 rfl ?_
    refine G_iconst F (v := (1 : Int32)) dX10_worked_49 (by decide) ?_
    obtain ⟨m11, e_m11, h⟩ := bnd h
    refine G_putVN F okX2 (f := 0) (by decide) q157 rfl rfl dX10_worked_50 (hp_pZ_of e_m11).1 (hp_pZ_of e_m11).2 ?_
    have hq_ := Option.some.inj h
    exact G_sub F (L2 := [some (.inl a0), some (.inl a1), some (.inl a2), none]) ⟨rfl, ⟨rfl, ⟨rfl, trivial⟩⟩⟩ (K5 _ hq_)

theorem metX10_worth (X : Gx) {dr : Nat} (hdr : 30 ≤ dr) {rec : Hp → Option Nat → Option Nat → Option (Int32 × Hp)} (hrec : ∀ (m : Hp) (nx : Nat) (a0 a1 : Option Nat) (rv : Int32) (m_ : Hp), rec m a0 a1 = some (rv, m_) → ∃ dc_, dc_ ≤ dr ∧ Con_worth X dc_ m nx a0 a1 rv m_) {m : Hp} {nx : Nat} {a0 : Option Nat} {a1 : Option Nat} {rv : Int32} {m_ : Hp} (h : fX10_worth rec m a0 a1 = some (rv, m_)) : Con X (dr + 1) yX10_worth cX10_worth 4 ((Option.some FieldType.int)) [.inr a0, .inr a1] m nx (some (.inl rv)) m_ 0 0 := by
  refine Con.of (own := RX10) (nm := "worth") (L := [some (.inr a0), some (.inr a1), none, none]) (by decide +kernel) rfl rfl (Nat.le_of_ble_eq_true rfl) (ent_of 2 rfl) ?_
  intro cx F
  refine G_aload_n F dX10_worth_0 rfl ?_
  obtain ⟨v1, e_v1, h⟩ := bnd h
  refine G_getR F okX10 (f := 1) (by decide) q634 rfl dX10_worth_1 e_v1 ?_
  refine G_aload_n F dX10_worth_4 rfl ?_
  obtain ⟨⟨v2, m3⟩, e_v2, h⟩ := bnd h
  obtain ⟨dc_, hd_, hw_v2⟩ := hrec _ (nx) _ _ _ _ e_v2
  have K_v2 : G X cx 4 (Qm X cx (some (.inl rv)) m_ nx 0 0) (0) (0) m3 (nx) [some (.inr a0), some (.inr a1), none, none] [.inl v2] 8 := by
    refine G_istore_n F (L2 := [some (.inr a0), some (.inr a1), some (.inl v2), none]) dX10_worth_8 (by decide) rfl ?_
    refine G_aload_n F dX10_worth_9 rfl ?_
    obtain ⟨v4, e_v4, h⟩ := bnd h
    refine G_getR F okX10 (f := 2) (by decide) q635 rfl dX10_worth_10 e_v4 ?_
    refine G_astore_n F (L2 := [some (.inr a0), some (.inr a1), some (.inl v2), some (.inr v4)]) dX10_worth_13 (by decide) rfl ?_
    obtain ⟨r5, hr5, h⟩ := bnd h
    have KE5 : ∀ (v14 : Int32) (m15 : Hp), (v14, m15) = r5 → G X cx 4 (Qm X cx (some (.inl rv)) m_ nx 0 0) (0) (0) m15 (nx) [none, none, some (.inl v14), none] [] 44 := by
      intro v14 m15 hq
      subst hq
      try dsimp only at h
      refine G_iload_n F dX10_worth_44 rfl ?_
      cases h
      exact G_iret F rfl (Nat.le_refl _) (Nat.le_refl _) rfl dX10_worth_45
    have KB5 : ∀ s o5, fX10_worth_L14 rec a1 s = some o5 → (∀ s', o5 = Sum.inl s' → (fun (s : (Int32 × Option Nat × Hp)) => match s with | (s2_5, s3_5, m5) => G X cx 4 (Qm X cx (some (.inl rv)) m_ nx 0 0) (0) (0) m5 (nx) [none, some (.inr a1), some (.inl s2_5), some (.inr s3_5)] [] 14) s') → (∀ q, o5 = Sum.inr q → q = r5) → (fun (s : (Int32 × Option Nat × Hp)) => match s with | (s2_5, s3_5, m5) => G X cx 4 (Qm X cx (some (.inl rv)) m_ nx 0 0) (0) (0) m5 (nx) [none, some (.inr a1), some (.inl s2_5), some (.inr s3_5)] [] 14) s := by
      intro s o5 h hP5 hE5
      obtain ⟨s2_5, s3_5, m5⟩ := s
      try dsimp only at hP5 hE5 ⊢
      refine G_aload_n F dX10_worth_14 rfl ?_
      refine G_ifnull F (tgt := 44) dX10_worth_15 (by decide) (fun c6 => ?_) (fun c6 => ?_)
      · have h := itt c6 h
        cases h
        exact G_sub F (L2 := [none, none, some (.inl s2_5), none]) ⟨rfl, trivial⟩ (KE5 _ _ (hE5 _ rfl))
      · have h := itf c6 h
        refine G_aload_n F dX10_worth_18 rfl ?_
        obtain ⟨v7, e_v7, h⟩ := bnd h
        refine G_getI F okX10 (f := 0) (by decide) q633 rfl dX10_worth_19 e_v7 ?_
        refine G_iload_n F dX10_worth_22 rfl ?_
        refine G_aload_n F dX10_worth_23 rfl ?_
        obtain ⟨v8, e_v8, h⟩ := bnd h
        refine G_getR F okX10 (f := 1) (by decide) q634 rfl dX10_worth_24 e_v8 ?_
        refine G_aload_n F dX10_worth_27 rfl ?_
        obtain ⟨⟨v9, m10⟩, e_v9, h⟩ := bnd h
        obtain ⟨dc_, hd_, hw_v9⟩ := hrec _ (nx) _ _ _ _ e_v9
        have K_v9 : G X cx 4 (Qm X cx (some (.inl rv)) m_ nx 0 0) (0) (0) m10 (nx) [none, some (.inr a1), some (.inl s2_5), some (.inr s3_5)] [.inl v9, .inl s2_5, .inl v7] 31 := by
          refine G_aload_n F dX10_worth_31 rfl ?_
          obtain ⟨⟨v11, m12⟩, e_v11, h⟩ := bnd h
          refine G_callSv F (As := [.inl v7, .inl s2_5, .inl v9, .inr a1]) (st := []) (metX10_worked X e_v11) (lw_S q968 q969 q118 q970) hdfX10_worked ⟨by omega, by decide⟩ rfl (Nat.le_of_ble_eq_true rfl) ⟨by omega, by omega⟩ dX10_worth_32 ?_
          refine G_istore_n F (L2 := [none, some (.inr a1), some (.inl v11), some (.inr s3_5)]) dX10_worth_35 (by decide) rfl ?_
          refine G_aload_n F dX10_worth_36 rfl ?_
          obtain ⟨v13, e_v13, h⟩ := bnd h
          refine G_getR F okX10 (f := 2) (by decide) q635 rfl dX10_worth_37 e_v13 ?_
          refine G_astore_n F (L2 := [none, some (.inr a1), some (.inl v11), some (.inr v13)]) dX10_worth_40 (by decide) rfl ?_
          refine G_goto F (tgt := 14) dX10_worth_41 (by decide) ?_
          cases h
          exact G_sub F (L2 := [none, some (.inr a1), some (.inl v11), some (.inr v13)]) ⟨rfl, ⟨rfl, ⟨rfl, trivial⟩⟩⟩ (hP5 _ rfl)
        rcases hw_v9 with ⟨hc_, hM_⟩ | ⟨hc_, hM_⟩ | ⟨hc_, hM_⟩
        · exact G_callAv F (As := [.inr a1]) (st := [.inl s2_5, .inl v7]) (x := ⟨"MissedTrains$Sum", "worth", "(LMissedTrains$Asked;)I"⟩) (owner := "MissedTrains$Sum") hM_ hc_ rfl (lw_U q967 q951 q964 q965 q118 q966) q950 hdA_worth ⟨by omega, by decide⟩ rfl (Nat.le_of_ble_eq_true rfl) ⟨by omega, by omega⟩ dX10_worth_28 K_v9
        · exact G_callAv F (As := [.inr a1]) (st := [.inl s2_5, .inl v7]) (x := ⟨"MissedTrains$Sum", "worth", "(LMissedTrains$Asked;)I"⟩) (owner := "MissedTrains$Sum") hM_ hc_ rfl (lw_U q967 q951 q961 q962 q119 q963) q950 hdA_worth ⟨by omega, by decide⟩ rfl (Nat.le_of_ble_eq_true rfl) ⟨by omega, by omega⟩ dX10_worth_28 K_v9
        · exact G_callAv F (As := [.inr a1]) (st := [.inl s2_5, .inl v7]) (x := ⟨"MissedTrains$Sum", "worth", "(LMissedTrains$Asked;)I"⟩) (owner := "MissedTrains$Sum") hM_ hc_ rfl (lw_U q967 q951 q952 q953 q120 q954) q950 hdA_worth ⟨by omega, by decide⟩ rfl (Nat.le_of_ble_eq_true rfl) ⟨by omega, by omega⟩ dX10_worth_28 K_v9
    have hI := iter_ok (fun (s : (Int32 × Option Nat × Hp)) => match s with | (s2_5, s3_5, m5) => G X cx 4 (Qm X cx (some (.inl rv)) m_ nx 0 0) (0) (0) m5 (nx) [none, some (.inr a1), some (.inl s2_5), some (.inr s3_5)] [] 14) (fun q => q = r5) KB5 _ _ _ hr5 rfl
    exact G_sub F (L2 := [none, some (.inr a1), some (.inl v2), some (.inr v4)]) ⟨rfl, ⟨rfl, ⟨rfl, trivial⟩⟩⟩ hI
  rcases hw_v2 with ⟨hc_, hM_⟩ | ⟨hc_, hM_⟩ | ⟨hc_, hM_⟩
  · exact G_callAv F (As := [.inr a1]) (st := []) (x := ⟨"MissedTrains$Sum", "worth", "(LMissedTrains$Asked;)I"⟩) (owner := "MissedTrains$Sum") hM_ hc_ rfl (lw_U q967 q951 q964 q965 q118 q966) q950 hdA_worth ⟨by omega, by decide⟩ rfl (Nat.le_of_ble_eq_true rfl) ⟨by omega, by omega⟩ dX10_worth_5 K_v2
  · exact G_callAv F (As := [.inr a1]) (st := []) (x := ⟨"MissedTrains$Sum", "worth", "(LMissedTrains$Asked;)I"⟩) (owner := "MissedTrains$Sum") hM_ hc_ rfl (lw_U q967 q951 q961 q962 q119 q963) q950 hdA_worth ⟨by omega, by decide⟩ rfl (Nat.le_of_ble_eq_true rfl) ⟨by omega, by omega⟩ dX10_worth_5 K_v2
  · exact G_callAv F (As := [.inr a1]) (st := []) (x := ⟨"MissedTrains$Sum", "worth", "(LMissedTrains$Asked;)I"⟩) (owner := "MissedTrains$Sum") hM_ hc_ rfl (lw_U q967 q951 q952 q953 q120 q954) q950 hdA_worth ⟨by omega, by decide⟩ rfl (Nat.le_of_ble_eq_true rfl) ⟨by omega, by omega⟩ dX10_worth_5 K_v2

theorem con_worth (X : Gx) : ∀ (n : Nat), ∀ (m : Hp) (nx : Nat) (a0 a1 : Option Nat) (rv : Int32) (m_ : Hp), fX9_worth n m a0 a1 = some (rv, m_) → ∃ dc_, dc_ ≤ (30 + n) ∧ Con_worth X dc_ m nx a0 a1 rv m_ := by
  intro n
  induction n with
  | zero => intro _ _ _ _ _ _ h; cases h
  | succ n ih =>
    intro m nx a0 a1 rv m_ h
    by_cases c0 : hp_cls m a0 = some 8
    · have h := itt c0 h
      exact ⟨_, Nat.le_refl _, Or.inl ⟨c0, metX10_worth X (dr := 30 + n) (by omega) ih h⟩⟩
    have h := itf c0 h
    by_cases c1 : hp_cls m a0 = some 9
    · have h := itt c1 h
      obtain ⟨v, hv, e⟩ := Option.map_eq_some_iff.mp h
      cases e
      exact ⟨1, by omega, Or.inr (Or.inl ⟨c1, metX11_worth X hv⟩)⟩
    have h := itf c1 h
    by_cases c2 : hp_cls m a0 = some 10
    · have h := itt c2 h
      obtain ⟨v, hv, e⟩ := Option.map_eq_some_iff.mp h
      cases e
      exact ⟨2, by omega, Or.inr (Or.inr ⟨c2, metX12_worth X hv⟩)⟩
    have h := itf c2 h
    cases h

theorem metX16_holds (X : Gx) {m : Hp} {nx : Nat} {a0 : Option Nat} {a1 : Option Nat} {rv : Int32} {m_ : Hp} (h : fX16_holds m a0 a1 = some (rv, m_)) : Con X (96) yX16_holds cX16_holds 5 ((Option.some FieldType.int)) [.inr a0, .inr a1] m nx (some (.inl rv)) m_ 0 0 := by
  refine Con.of (own := RX16) (nm := "holds") (L := [some (.inr a0), some (.inr a1), none, none, none]) (by decide +kernel) rfl rfl (Nat.le_of_ble_eq_true rfl) (ent_of 3 rfl) ?_
  intro cx F
  refine G_aload_n F dX16_holds_0 rfl ?_
  refine G_iconst F (v := (0 : Int32)) dX16_holds_1 (by decide) ?_
  obtain ⟨m1, e_m1, h⟩ := bnd h
  refine G_putVN F okX2 (f := 0) (by decide) q156 rfl rfl dX16_holds_2 (hp_pZ_of e_m1).1 (hp_pZ_of e_m1).2 ?_
  refine G_aload_n F dX16_holds_5 rfl ?_
  obtain ⟨v2, e_v2, h⟩ := bnd h
  refine G_getR F okX16 (f := 0) (by decide) q677 rfl dX16_holds_6 e_v2 ?_
  refine G_aload_n F dX16_holds_9 rfl ?_
  obtain ⟨⟨v3, m4⟩, e_v3, h⟩ := bnd h
  obtain ⟨dc_, hd_, hw_v3⟩ := con_worth X 60 _ (nx) _ _ _ _ e_v3
  have K_v3 : G X cx 5 (Qm X cx (some (.inl rv)) m_ nx 0 0) (0) (0) m4 (nx) [some (.inr a0), some (.inr a1), none, none, none] [.inl v3] 13 := by
    refine G_istore_n F (L2 := [some (.inr a0), some (.inr a1), some (.inl v3), none, none]) dX16_holds_13 (by decide) rfl ?_
    refine G_aload_n F dX16_holds_14 rfl ?_
    obtain ⟨v5, e_v5, h⟩ := bnd h
    refine G_getR F okX16 (f := 1) (by decide) q678 rfl dX16_holds_15 e_v5 ?_
    refine G_aload_n F dX16_holds_18 rfl ?_
    obtain ⟨⟨v6, m7⟩, e_v6, h⟩ := bnd h
    obtain ⟨dc_, hd_, hw_v6⟩ := con_worth X 60 _ (nx) _ _ _ _ e_v6
    have K_v6 : G X cx 5 (Qm X cx (some (.inl rv)) m_ nx 0 0) (0) (0) m7 (nx) [some (.inr a0), some (.inr a1), some (.inl v3), none, none] [.inl v6] 22 := by
      refine G_istore_n F (L2 := [some (.inr a0), some (.inr a1), some (.inl v3), some (.inl v6), none]) dX16_holds_22 (by decide) rfl ?_
      refine G_aload_n F dX16_holds_23 rfl ?_
      obtain ⟨v8, e_v8, h⟩ := bnd h
      refine G_getI F okX16 (f := 2) (by decide) q679 rfl dX16_holds_24 e_v8 ?_
      refine G_bipush F (v := (60 : Int32)) dX16_holds_27 (by decide) ?_
      obtain ⟨p10, hp10, h⟩ := bnd h
      have K10 : ∀ (v9 : Int32), v9 = p10 → G X cx 5 (Qm X cx (some (.inl rv)) m_ nx 0 0) (0) (0) m7 (nx) [none, some (.inr a1), none, none, none] [.inl v9] 77 := by
        intro v9 hq
        subst hq
        try dsimp only at h
        refine G_istore F (L2 := [none, some (.inr a1), none, none, some (.inl v9)]) dX16_holds_77 (by decide) rfl ?_
        refine G_aload_n F dX16_holds_79 rfl ?_
        obtain ⟨v11, e_v11, h⟩ := bnd h
        refine G_getIN F okX2 (f := 0) (by decide) q156 rfl dX16_holds_80 e_v11 ?_
        refine G_if_eq F (tgt := 90) dX16_holds_83 (by decide) (fun c12 => ?_) (fun c12 => ?_)
        · have h := itt c12 h
          refine G_iload F dX16_holds_90 rfl ?_
          refine G_if_eq F (tgt := 99) dX16_holds_92 (by decide) (fun c13 => ?_) (fun c13 => ?_)
          · have h := itt c13 h
            refine G_iconst F (v := (0 : Int32)) dX16_holds_99 (by decide) ?_
            cases h
            exact G_iret F rfl (Nat.le_refl _) (Nat.le_refl _) rfl dX16_holds_100
          · have h := itf c13 h
            refine G_iconst F (v := (1 : Int32)) dX16_holds_95 (by decide) ?_
            refine G_goto F (tgt := 100) dX16_holds_96 (by decide) ?_
            cases h
            exact G_iret F rfl (Nat.le_refl _) (Nat.le_refl _) rfl dX16_holds_100
        · have h := itf c12 h
          refine G_iconst F (v := (2 : Int32)) dX16_holds_86 (by decide) ?_
          refine G_goto F (tgt := 100) dX16_holds_87 (by decide) ?_
          cases h
          exact G_iret F rfl (Nat.le_refl _) (Nat.le_refl _) rfl dX16_holds_100
      have h := hp10
      clear hp10
      refine G_icmp_ne F (tgt := 45) dX16_holds_29 (by decide) (fun c14 => ?_) (fun c14 => ?_)
      · have h := itf c14 h
        refine G_aload_n F dX16_holds_45 rfl ?_
        obtain ⟨v15, e_v15, h⟩ := bnd h
        refine G_getI F okX16 (f := 2) (by decide) q679 rfl dX16_holds_46 e_v15 ?_
        refine G_bipush F (v := (62 : Int32)) dX16_holds_49 (by decide) ?_
        refine G_icmp_ne F (tgt := 67) dX16_holds_51 (by decide) (fun c16 => ?_) (fun c16 => ?_)
        · have h := itf c16 h
          refine G_iload_n F dX16_holds_67 rfl ?_
          refine G_iload_n F dX16_holds_68 rfl ?_
          refine G_icmp_ne F (tgt := 76) dX16_holds_69 (by decide) (fun c17 => ?_) (fun c17 => ?_)
          · have h := itf c17 h
            refine G_iconst F (v := (0 : Int32)) dX16_holds_76 (by decide) ?_
            have hq_ := Option.some.inj h
            exact G_sub F (L2 := [none, some (.inr a1), none, none, none]) ⟨rfl, trivial⟩ (K10 _ hq_)
          · have h := itt c17 h
            refine G_iconst F (v := (1 : Int32)) dX16_holds_72 (by decide) ?_
            refine G_goto F (tgt := 77) dX16_holds_73 (by decide) ?_
            have hq_ := Option.some.inj h
            exact G_sub F (L2 := [none, some (.inr a1), none, none, none]) ⟨rfl, trivial⟩ (K10 _ hq_)
        · have h := itt c16 h
          refine G_iload_n F dX16_holds_54 rfl ?_
          refine G_iload_n F dX16_holds_55 rfl ?_
          refine G_icmp_le F (tgt := 63) dX16_holds_56 (by decide) (fun c18 => ?_) (fun c18 => ?_)
          · have h := itt c18 h
            refine G_iconst F (v := (0 : Int32)) dX16_holds_63 (by decide) ?_
            refine G_goto F (tgt := 77) dX16_holds_64 (by decide) ?_
            have hq_ := Option.some.inj h
            exact G_sub F (L2 := [none, some (.inr a1), none, none, none]) ⟨rfl, trivial⟩ (K10 _ hq_)
          · have h := itf c18 h
            refine G_iconst F (v := (1 : Int32)) dX16_holds_59 (by decide) ?_
            refine G_goto F (tgt := 77) dX16_holds_60 (by decide) ?_
            have hq_ := Option.some.inj h
            exact G_sub F (L2 := [none, some (.inr a1), none, none, none]) ⟨rfl, trivial⟩ (K10 _ hq_)
      · have h := itt c14 h
        refine G_iload_n F dX16_holds_32 rfl ?_
        refine G_iload_n F dX16_holds_33 rfl ?_
        refine G_icmp_ge F (tgt := 41) dX16_holds_34 (by decide) (fun c19 => ?_) (fun c19 => ?_)
        · have h := itt c19 h
          refine G_iconst F (v := (0 : Int32)) dX16_holds_41 (by decide) ?_
          refine G_goto F (tgt := 77) dX16_holds_42 (by decide) ?_
          have hq_ := Option.some.inj h
          exact G_sub F (L2 := [none, some (.inr a1), none, none, none]) ⟨rfl, trivial⟩ (K10 _ hq_)
        · have h := itf c19 h
          refine G_iconst F (v := (1 : Int32)) dX16_holds_37 (by decide) ?_
          refine G_goto F (tgt := 77) dX16_holds_38 (by decide) ?_
          have hq_ := Option.some.inj h
          exact G_sub F (L2 := [none, some (.inr a1), none, none, none]) ⟨rfl, trivial⟩ (K10 _ hq_)
    rcases hw_v6 with ⟨hc_, hM_⟩ | ⟨hc_, hM_⟩ | ⟨hc_, hM_⟩
    · exact G_callAv F (As := [.inr a1]) (st := []) (x := ⟨"MissedTrains$Sum", "worth", "(LMissedTrains$Asked;)I"⟩) (owner := "MissedTrains$Sum") hM_ hc_ rfl (lw_U q949 q951 q964 q965 q118 q966) q950 hdA_worth ⟨by omega, by decide⟩ rfl (Nat.le_of_ble_eq_true rfl) ⟨by omega, by omega⟩ dX16_holds_19 K_v6
    · exact G_callAv F (As := [.inr a1]) (st := []) (x := ⟨"MissedTrains$Sum", "worth", "(LMissedTrains$Asked;)I"⟩) (owner := "MissedTrains$Sum") hM_ hc_ rfl (lw_U q949 q951 q961 q962 q119 q963) q950 hdA_worth ⟨by omega, by decide⟩ rfl (Nat.le_of_ble_eq_true rfl) ⟨by omega, by omega⟩ dX16_holds_19 K_v6
    · exact G_callAv F (As := [.inr a1]) (st := []) (x := ⟨"MissedTrains$Sum", "worth", "(LMissedTrains$Asked;)I"⟩) (owner := "MissedTrains$Sum") hM_ hc_ rfl (lw_U q949 q951 q952 q953 q120 q954) q950 hdA_worth ⟨by omega, by decide⟩ rfl (Nat.le_of_ble_eq_true rfl) ⟨by omega, by omega⟩ dX16_holds_19 K_v6
  rcases hw_v3 with ⟨hc_, hM_⟩ | ⟨hc_, hM_⟩ | ⟨hc_, hM_⟩
  · exact G_callAv F (As := [.inr a1]) (st := []) (x := ⟨"MissedTrains$Sum", "worth", "(LMissedTrains$Asked;)I"⟩) (owner := "MissedTrains$Sum") hM_ hc_ rfl (lw_U q949 q951 q964 q965 q118 q966) q950 hdA_worth ⟨by omega, by decide⟩ rfl (Nat.le_of_ble_eq_true rfl) ⟨by omega, by omega⟩ dX16_holds_10 K_v3
  · exact G_callAv F (As := [.inr a1]) (st := []) (x := ⟨"MissedTrains$Sum", "worth", "(LMissedTrains$Asked;)I"⟩) (owner := "MissedTrains$Sum") hM_ hc_ rfl (lw_U q949 q951 q961 q962 q119 q963) q950 hdA_worth ⟨by omega, by decide⟩ rfl (Nat.le_of_ble_eq_true rfl) ⟨by omega, by omega⟩ dX16_holds_10 K_v3
  · exact G_callAv F (As := [.inr a1]) (st := []) (x := ⟨"MissedTrains$Sum", "worth", "(LMissedTrains$Asked;)I"⟩) (owner := "MissedTrains$Sum") hM_ hc_ rfl (lw_U q949 q951 q952 q953 q120 q954) q950 hdA_worth ⟨by omega, by decide⟩ rfl (Nat.le_of_ble_eq_true rfl) ⟨by omega, by omega⟩ dX16_holds_10 K_v3

theorem metX15_holds (X : Gx) {dr : Nat} (hdr : 120 ≤ dr) {rec : Hp → Option Nat → Option Nat → Option (Int32 × Hp)} (hrec : ∀ (m : Hp) (nx : Nat) (a0 a1 : Option Nat) (rv : Int32) (m_ : Hp), rec m a0 a1 = some (rv, m_) → ∃ dc_, dc_ ≤ dr ∧ Con_holds X dc_ m nx a0 a1 rv m_) {m : Hp} {nx : Nat} {a0 : Option Nat} {a1 : Option Nat} {rv : Int32} {m_ : Hp} (h : fX15_holds rec m a0 a1 = some (rv, m_)) : Con X (dr + 1) yX15_holds cX15_holds 3 ((Option.some FieldType.int)) [.inr a0, .inr a1] m nx (some (.inl rv)) m_ 0 0 := by
  refine Con.of (own := RX15) (nm := "holds") (L := [some (.inr a0), some (.inr a1), none]) (by decide +kernel) rfl rfl (Nat.le_of_ble_eq_true rfl) (ent_of 1 rfl) ?_
  intro cx F
  refine G_aload_n F dX15_holds_0 rfl ?_
  obtain ⟨v1, e_v1, h⟩ := bnd h
  refine G_getR F okX15 (f := 0) (by decide) q667 rfl dX15_holds_1 e_v1 ?_
  refine G_aload_n F dX15_holds_4 rfl ?_
  obtain ⟨⟨v2, m3⟩, e_v2, h⟩ := bnd h
  obtain ⟨dc_, hd_, hw_v2⟩ := hrec _ (nx) _ _ _ _ e_v2
  have K_v2 : G X cx 3 (Qm X cx (some (.inl rv)) m_ nx 0 0) (0) (0) m3 (nx) [some (.inr a0), some (.inr a1), none] [.inl v2] 8 := by
    refine G_istore_n F (L2 := [some (.inr a0), some (.inr a1), some (.inl v2)]) dX15_holds_8 (by decide) rfl ?_
    refine G_iload_n F dX15_holds_9 rfl ?_
    refine G_iconst F (v := (2 : Int32)) dX15_holds_10 (by decide) ?_
    refine G_icmp_ne F (tgt := 18) dX15_holds_11 (by decide) (fun c4 => ?_) (fun c4 => ?_)
    · have h := itf c4 h
      refine G_iconst F (v := (1 : Int32)) dX15_holds_18 (by decide) ?_
      refine G_iload_n F dX15_holds_19 rfl ?_
      refine G_isub F dX15_holds_20 ?_
      cases h
      exact G_iret F rfl (Nat.le_refl _) (Nat.le_refl _) rfl dX15_holds_21
    · have h := itt c4 h
      refine G_iconst F (v := (2 : Int32)) dX15_holds_14 (by decide) ?_
      refine G_goto F (tgt := 21) dX15_holds_15 (by decide) ?_
      cases h
      exact G_iret F rfl (Nat.le_refl _) (Nat.le_refl _) rfl dX15_holds_21
  rcases hw_v2 with ⟨hc_, hM_⟩ | ⟨hc_, hM_⟩ | ⟨hc_, hM_⟩
  · exact G_callAv F (As := [.inr a1]) (st := []) (x := ⟨"MissedTrains$Condition", "holds", "(LMissedTrains$Asked;)I"⟩) (owner := "MissedTrains$Condition") hM_ hc_ rfl (lw_U q974 q945 q978 q975 q122 q976) q944 hdA_holds ⟨by omega, by decide⟩ rfl (Nat.le_of_ble_eq_true rfl) ⟨by omega, by omega⟩ dX15_holds_5 K_v2
  · exact G_callAv F (As := [.inr a1]) (st := []) (x := ⟨"MissedTrains$Condition", "holds", "(LMissedTrains$Asked;)I"⟩) (owner := "MissedTrains$Condition") hM_ hc_ rfl (lw_U q974 q945 q971 q972 q123 q973) q944 hdA_holds ⟨by omega, by decide⟩ rfl (Nat.le_of_ble_eq_true rfl) ⟨by omega, by omega⟩ dX15_holds_5 K_v2
  · exact G_callAv F (As := [.inr a1]) (st := []) (x := ⟨"MissedTrains$Condition", "holds", "(LMissedTrains$Asked;)I"⟩) (owner := "MissedTrains$Condition") hM_ hc_ rfl (lw_U q974 q945 q946 q947 q124 q948) q944 hdA_holds ⟨by omega, by decide⟩ rfl (Nat.le_of_ble_eq_true rfl) ⟨by omega, by omega⟩ dX15_holds_5 K_v2

theorem metX14_holds (X : Gx) {dr : Nat} (hdr : 120 ≤ dr) {rec : Hp → Option Nat → Option Nat → Option (Int32 × Hp)} (hrec : ∀ (m : Hp) (nx : Nat) (a0 a1 : Option Nat) (rv : Int32) (m_ : Hp), rec m a0 a1 = some (rv, m_) → ∃ dc_, dc_ ≤ dr ∧ Con_holds X dc_ m nx a0 a1 rv m_) {m : Hp} {nx : Nat} {a0 : Option Nat} {a1 : Option Nat} {rv : Int32} {m_ : Hp} (h : fX14_holds rec m a0 a1 = some (rv, m_)) : Con X (dr + 1) yX14_holds cX14_holds 4 ((Option.some FieldType.int)) [.inr a0, .inr a1] m nx (some (.inl rv)) m_ 0 0 := by
  refine Con.of (own := RX14) (nm := "holds") (L := [some (.inr a0), some (.inr a1), none, none]) (by decide +kernel) rfl rfl (Nat.le_of_ble_eq_true rfl) (ent_of 2 rfl) ?_
  intro cx F
  refine G_aload_n F dX14_holds_0 rfl ?_
  refine G_astore_n F (L2 := [some (.inr a0), some (.inr a1), some (.inr a0), none]) dX14_holds_1 (by decide) rfl ?_
  obtain ⟨r1, hr1, h⟩ := bnd h
  have KE1 : ∀ (m10 : Hp), Sum.inl m10 = r1 → G X cx 4 (Qm X cx (some (.inl rv)) m_ nx 0 0) (0) (0) m10 (nx) [some (.inr a0), none, none, none] [] 38 := by
    intro m10 hq
    subst hq
    try dsimp only at h
    refine G_iconst F (v := (1 : Int32)) dX14_holds_38 (by decide) ?_
    refine G_aload_n F dX14_holds_39 rfl ?_
    obtain ⟨v11, e_v11, h⟩ := bnd h
    refine G_getI F okX14 (f := 1) (by decide) q692 rfl dX14_holds_40 e_v11 ?_
    refine G_isub F dX14_holds_43 ?_
    cases h
    exact G_iret F rfl (Nat.le_refl _) (Nat.le_refl _) rfl dX14_holds_44
  have KR1 : ∀ q, Sum.inr q = r1 → some q = some (rv, m_) := by
    intro q hq
    subst hq
    exact h
  have KB1 : ∀ s o1, fX14_holds_L2 rec a0 a1 s = some o1 → (∀ s', o1 = Sum.inl s' → (fun (s : (Option Nat × Hp)) => match s with | (s2_1, m1) => G X cx 4 (Qm X cx (some (.inl rv)) m_ nx 0 0) (0) (0) m1 (nx) [some (.inr a0), some (.inr a1), some (.inr s2_1), none] [] 2) s') → (∀ q, o1 = Sum.inr q → q = r1) → (fun (s : (Option Nat × Hp)) => match s with | (s2_1, m1) => G X cx 4 (Qm X cx (some (.inl rv)) m_ nx 0 0) (0) (0) m1 (nx) [some (.inr a0), some (.inr a1), some (.inr s2_1), none] [] 2) s := by
    intro s o1 h hP1 hE1
    obtain ⟨s2_1, m1⟩ := s
    try dsimp only at hP1 hE1 ⊢
    refine G_aload_n F dX14_holds_2 rfl ?_
    refine G_ifnull F (tgt := 38) dX14_holds_3 (by decide) (fun c2 => ?_) (fun c2 => ?_)
    · have h := itt c2 h
      cases h
      exact G_sub F (L2 := [some (.inr a0), none, none, none]) ⟨rfl, trivial⟩ (KE1 _ (hE1 _ rfl))
    · have h := itf c2 h
      refine G_aload_n F dX14_holds_6 rfl ?_
      obtain ⟨v3, e_v3, h⟩ := bnd h
      refine G_getR F okX14 (f := 0) (by decide) q691 rfl dX14_holds_7 e_v3 ?_
      refine G_aload_n F dX14_holds_10 rfl ?_
      obtain ⟨⟨v4, m5⟩, e_v4, h⟩ := bnd h
      obtain ⟨dc_, hd_, hw_v4⟩ := hrec _ (nx) _ _ _ _ e_v4
      have K_v4 : G X cx 4 (Qm X cx (some (.inl rv)) m_ nx 0 0) (0) (0) m5 (nx) [some (.inr a0), some (.inr a1), some (.inr s2_1), none] [.inl v4] 14 := by
        refine G_istore_n F (L2 := [some (.inr a0), some (.inr a1), some (.inr s2_1), some (.inl v4)]) dX14_holds_14 (by decide) rfl ?_
        refine G_iload_n F dX14_holds_15 rfl ?_
        refine G_iconst F (v := (2 : Int32)) dX14_holds_16 (by decide) ?_
        refine G_icmp_eq F (tgt := 28) dX14_holds_17 (by decide) (fun c6 => ?_) (fun c6 => ?_)
        · have h := itt c6 h
          refine G_iload_n F dX14_holds_28 rfl ?_
          cases h
          have h := KR1 _ (hE1 _ rfl)
          cases h
          exact G_iret F rfl (Nat.le_refl _) (Nat.le_refl _) rfl dX14_holds_29
        · have h := itf c6 h
          refine G_iload_n F dX14_holds_20 rfl ?_
          refine G_aload_n F dX14_holds_21 rfl ?_
          obtain ⟨v7, e_v7, h⟩ := bnd h
          refine G_getI F okX14 (f := 1) (by decide) q692 rfl dX14_holds_22 e_v7 ?_
          refine G_icmp_ne F (tgt := 30) dX14_holds_25 (by decide) (fun c8 => ?_) (fun c8 => ?_)
          · have h := itf c8 h
            refine G_aload_n F dX14_holds_30 rfl ?_
            obtain ⟨v9, e_v9, h⟩ := bnd h
            refine G_getR F okX14 (f := 2) (by decide) q693 rfl dX14_holds_31 e_v9 ?_
            refine G_astore_n F (L2 := [some (.inr a0), some (.inr a1), some (.inr v9), some (.inl v4)]) dX14_holds_34 (by decide) rfl ?_
            refine G_goto F (tgt := 2) dX14_holds_35 (by decide) ?_
            cases h
            exact G_sub F (L2 := [some (.inr a0), some (.inr a1), some (.inr v9), none]) ⟨rfl, ⟨rfl, ⟨rfl, trivial⟩⟩⟩ (hP1 _ rfl)
          · have h := itt c8 h
            refine G_iload_n F dX14_holds_28 rfl ?_
            cases h
            have h := KR1 _ (hE1 _ rfl)
            cases h
            exact G_iret F rfl (Nat.le_refl _) (Nat.le_refl _) rfl dX14_holds_29
      rcases hw_v4 with ⟨hc_, hM_⟩ | ⟨hc_, hM_⟩ | ⟨hc_, hM_⟩
      · exact G_callAv F (As := [.inr a1]) (st := []) (x := ⟨"MissedTrains$Condition", "holds", "(LMissedTrains$Asked;)I"⟩) (owner := "MissedTrains$Condition") hM_ hc_ rfl (lw_U q977 q945 q978 q975 q122 q976) q944 hdA_holds ⟨by omega, by decide⟩ rfl (Nat.le_of_ble_eq_true rfl) ⟨by omega, by omega⟩ dX14_holds_11 K_v4
      · exact G_callAv F (As := [.inr a1]) (st := []) (x := ⟨"MissedTrains$Condition", "holds", "(LMissedTrains$Asked;)I"⟩) (owner := "MissedTrains$Condition") hM_ hc_ rfl (lw_U q977 q945 q971 q972 q123 q973) q944 hdA_holds ⟨by omega, by decide⟩ rfl (Nat.le_of_ble_eq_true rfl) ⟨by omega, by omega⟩ dX14_holds_11 K_v4
      · exact G_callAv F (As := [.inr a1]) (st := []) (x := ⟨"MissedTrains$Condition", "holds", "(LMissedTrains$Asked;)I"⟩) (owner := "MissedTrains$Condition") hM_ hc_ rfl (lw_U q977 q945 q946 q947 q124 q948) q944 hdA_holds ⟨by omega, by decide⟩ rfl (Nat.le_of_ble_eq_true rfl) ⟨by omega, by omega⟩ dX14_holds_11 K_v4
  have hI := iter_ok (fun (s : (Option Nat × Hp)) => match s with | (s2_1, m1) => G X cx 4 (Qm X cx (some (.inl rv)) m_ nx 0 0) (0) (0) m1 (nx) [some (.inr a0), some (.inr a1), some (.inr s2_1), none] [] 2) (fun q => q = r1) KB1 _ _ _ hr1 rfl
  exact G_sub F (L2 := [some (.inr a0), some (.inr a1), some (.inr a0), none]) ⟨rfl, ⟨rfl, ⟨rfl, trivial⟩⟩⟩ hI

theorem con_holds (X : Gx) : ∀ (n : Nat), ∀ (m : Hp) (nx : Nat) (a0 a1 : Option Nat) (rv : Int32) (m_ : Hp), fX13_holds n m a0 a1 = some (rv, m_) → ∃ dc_, dc_ ≤ (120 + n) ∧ Con_holds X dc_ m nx a0 a1 rv m_ := by
  intro n
  induction n with
  | zero => intro _ _ _ _ _ _ h; cases h
  | succ n ih =>
    intro m nx a0 a1 rv m_ h
    by_cases c0 : hp_cls m a0 = some 11
    · have h := itt c0 h
      exact ⟨_, Nat.le_refl _, Or.inl ⟨c0, metX14_holds X (dr := 120 + n) (by omega) ih h⟩⟩
    have h := itf c0 h
    by_cases c1 : hp_cls m a0 = some 12
    · have h := itt c1 h
      exact ⟨_, Nat.le_refl _, Or.inr (Or.inl ⟨c1, metX15_holds X (dr := 120 + n) (by omega) ih h⟩)⟩
    have h := itf c1 h
    by_cases c2 : hp_cls m a0 = some 13
    · have h := itt c2 h
      exact ⟨96, by omega, Or.inr (Or.inr ⟨c2, metX16_holds X h⟩)⟩
    have h := itf c2 h
    cases h

theorem metX9_told (X : Gx) {m : Hp} {nx : Nat} {a0 : Option Nat} {a1 : Option Nat} {rv : Int32} {m_ : Hp} (h : fX9_told m a0 a1 = some (rv, m_)) : Con X (96) yX9_told cX9_told 3 ((Option.some FieldType.int)) [.inr a0, .inr a1] m nx (some (.inl rv)) m_ 0 0 := by
  refine Con.of (own := RX9) (nm := "told") (L := [some (.inr a0), some (.inr a1), none]) (by decide +kernel) rfl rfl (Nat.le_of_ble_eq_true rfl) (ent_of 1 rfl) ?_
  intro cx F
  refine G_aload_n F dX9_told_0 rfl ?_
  refine G_iconst F (v := (0 : Int32)) dX9_told_1 (by decide) ?_
  obtain ⟨m1, e_m1, h⟩ := bnd h
  refine G_putVN F okX2 (f := 0) (by decide) q158 rfl rfl dX9_told_2 (hp_pZ_of e_m1).1 (hp_pZ_of e_m1).2 ?_
  refine G_aload_n F dX9_told_5 rfl ?_
  refine G_aload_n F dX9_told_6 rfl ?_
  obtain ⟨⟨v2, m3⟩, e_v2, h⟩ := bnd h
  obtain ⟨dc_, hd_, hw_v2⟩ := con_worth X 60 _ (nx) _ _ _ _ e_v2
  have K_v2 : G X cx 3 (Qm X cx (some (.inl rv)) m_ nx 0 0) (0) (0) m3 (nx) [some (.inr a0), some (.inr a1), none] [.inl v2] 10 := by
    refine G_istore_n F (L2 := [some (.inr a0), some (.inr a1), some (.inl v2)]) dX9_told_10 (by decide) rfl ?_
    refine G_aload_n F dX9_told_11 rfl ?_
    obtain ⟨v4, e_v4, h⟩ := bnd h
    refine G_getIN F okX2 (f := 0) (by decide) q158 rfl dX9_told_12 e_v4 ?_
    refine G_if_eq F (tgt := 22) dX9_told_15 (by decide) (fun c5 => ?_) (fun c5 => ?_)
    · have h := itt c5 h
      refine G_iload_n F dX9_told_22 rfl ?_
      cases h
      exact G_iret F rfl (Nat.le_refl _) (Nat.le_refl _) rfl dX9_told_23
    · have h := itf c5 h
      refine G_iconst F (v := (0 : Int32)) dX9_told_18 (by decide) ?_
      refine G_goto F (tgt := 23) dX9_told_19 (by decide) ?_
      cases h
      exact G_iret F rfl (Nat.le_refl _) (Nat.le_refl _) rfl dX9_told_23
  rcases hw_v2 with ⟨hc_, hM_⟩ | ⟨hc_, hM_⟩ | ⟨hc_, hM_⟩
  · exact G_callAv F (As := [.inr a1]) (st := []) (x := ⟨"MissedTrains$Sum", "worth", "(LMissedTrains$Asked;)I"⟩) (owner := "MissedTrains$Sum") hM_ hc_ rfl (lw_U q986 q951 q964 q965 q118 q966) q950 hdA_worth ⟨by omega, by decide⟩ rfl (Nat.le_of_ble_eq_true rfl) ⟨by omega, by omega⟩ dX9_told_7 K_v2
  · exact G_callAv F (As := [.inr a1]) (st := []) (x := ⟨"MissedTrains$Sum", "worth", "(LMissedTrains$Asked;)I"⟩) (owner := "MissedTrains$Sum") hM_ hc_ rfl (lw_U q986 q951 q961 q962 q119 q963) q950 hdA_worth ⟨by omega, by decide⟩ rfl (Nat.le_of_ble_eq_true rfl) ⟨by omega, by omega⟩ dX9_told_7 K_v2
  · exact G_callAv F (As := [.inr a1]) (st := []) (x := ⟨"MissedTrains$Sum", "worth", "(LMissedTrains$Asked;)I"⟩) (owner := "MissedTrains$Sum") hM_ hc_ rfl (lw_U q986 q951 q952 q953 q120 q954) q950 hdA_worth ⟨by omega, by decide⟩ rfl (Nat.le_of_ble_eq_true rfl) ⟨by omega, by omega⟩ dX9_told_7 K_v2

theorem metX5_tells (X : Gx) {m : Hp} {nx : Nat} {a0 : Option Nat} {a1 : Int32} {a2 : Option Nat} {rv : Int32} {m_ : Hp} (h : fX5_tells m a0 a1 a2 = some (rv, m_)) : Con X (186) yX5_tells cX5_tells 4 ((Option.some FieldType.int)) [.inr a0, .inl a1, .inr a2] m nx (some (.inl rv)) m_ 0 0 := by
  refine Con.of (own := RX5) (nm := "tells") (L := [some (.inr a0), some (.inl a1), some (.inr a2), none]) (by decide +kernel) rfl rfl (Nat.le_of_ble_eq_true rfl) (ent_of 1 rfl) ?_
  intro cx F
  refine G_iconst F (v := (0 : Int32)) dX5_tells_0 (by decide) ?_
  refine G_istore_n F (L2 := [some (.inr a0), some (.inl a1), some (.inr a2), some (.inl (0 : Int32))]) dX5_tells_1 (by decide) rfl ?_
  obtain ⟨r1, hr1, h⟩ := bnd h
  have KE1 : ∀ (m16 : Hp), Sum.inl m16 = r1 → G X cx 4 (Qm X cx (some (.inl rv)) m_ nx 0 0) (0) (0) m16 (nx) [none, none, none, none] [] 51 := by
    intro m16 hq
    subst hq
    try dsimp only at h
    refine G_iconst F (v := (0 : Int32)) dX5_tells_51 (by decide) ?_
    cases h
    exact G_iret F rfl (Nat.le_refl _) (Nat.le_refl _) rfl dX5_tells_52
  have KR1 : ∀ q, Sum.inr q = r1 → some q = some (rv, m_) := by
    intro q hq
    subst hq
    exact h
  have KB1 : ∀ s o1, fX5_tells_L2 a0 a1 a2 s = some o1 → (∀ s', o1 = Sum.inl s' → (fun (s : (Int32 × Hp)) => match s with | (s3_1, m1) => G X cx 4 (Qm X cx (some (.inl rv)) m_ nx 0 0) (0) (0) m1 (nx) [some (.inr a0), some (.inl a1), some (.inr a2), some (.inl s3_1)] [] 2) s') → (∀ q, o1 = Sum.inr q → q = r1) → (fun (s : (Int32 × Hp)) => match s with | (s3_1, m1) => G X cx 4 (Qm X cx (some (.inl rv)) m_ nx 0 0) (0) (0) m1 (nx) [some (.inr a0), some (.inl a1), some (.inr a2), some (.inl s3_1)] [] 2) s := by
    intro s o1 h hP1 hE1
    obtain ⟨s3_1, m1⟩ := s
    try dsimp only at hP1 hE1 ⊢
    refine G_iload_n F dX5_tells_2 rfl ?_
    refine G_aload_n F dX5_tells_3 rfl ?_
    obtain ⟨v2, e_v2, h⟩ := bnd h
    refine G_getI F okX5 (f := 3) (by decide) q275 rfl dX5_tells_4 e_v2 ?_
    refine G_icmp_ge F (tgt := 51) dX5_tells_7 (by decide) (fun c3 => ?_) (fun c3 => ?_)
    · have h := itt c3 h
      cases h
      exact G_sub F (L2 := [none, none, none, none]) trivial (KE1 _ (hE1 _ rfl))
    · have h := itf c3 h
      refine G_aload_n F dX5_tells_10 rfl ?_
      obtain ⟨v4, e_v4, h⟩ := bnd h
      refine G_getR F okX5 (f := 0) (by decide) q269 rfl dX5_tells_11 e_v4 ?_
      refine G_iload_n F dX5_tells_14 rfl ?_
      obtain ⟨v5, e_v5, h⟩ := bnd h
      refine G_iald F dX5_tells_15 e_v5 ?_
      refine G_iload_n F dX5_tells_16 rfl ?_
      refine G_icmp_ne F (tgt := 45) dX5_tells_17 (by decide) (fun c6 => ?_) (fun c6 => ?_)
      · have h := itf c6 h
        refine G_iinc F (v := (s3_1 + (1 : Int32))) (L2 := [some (.inr a0), some (.inl a1), some (.inr a2), some (.inl (s3_1 + (1 : Int32)))]) dX5_tells_45 (by decide) rfl rfl rfl ?_
        refine G_goto F (tgt := 2) dX5_tells_48 (by decide) ?_
        cases h
        exact G_sub F (L2 := [some (.inr a0), some (.inl a1), some (.inr a2), some (.inl (s3_1 + (1 : Int32)))]) ⟨rfl, ⟨rfl, ⟨rfl, ⟨rfl, trivial⟩⟩⟩⟩ (hP1 _ rfl)
      · have h := itt c6 h
        refine G_aload_n F dX5_tells_20 rfl ?_
        obtain ⟨v7, e_v7, h⟩ := bnd h
        refine G_getR F okX5 (f := 2) (by decide) q273 rfl dX5_tells_21 e_v7 ?_
        refine G_iload_n F dX5_tells_24 rfl ?_
        obtain ⟨v8, e_v8, h⟩ := bnd h
        refine G_aald F (t := 4) (by decide) dX5_tells_25 e_v8 ?_
        refine G_aload_n F dX5_tells_26 rfl ?_
        obtain ⟨⟨v9, m10⟩, e_v9, h⟩ := bnd h
        obtain ⟨dc_, hd_, hw_v9⟩ := con_holds X 60 _ (nx) _ _ _ _ e_v9
        have K_v9 : G X cx 4 (Qm X cx (some (.inl rv)) m_ nx 0 0) (0) (0) m10 (nx) [some (.inr a0), some (.inl a1), some (.inr a2), some (.inl s3_1)] [.inl v9] 30 := by
          refine G_iconst F (v := (1 : Int32)) dX5_tells_30 (by decide) ?_
          refine G_icmp_ne F (tgt := 45) dX5_tells_31 (by decide) (fun c11 => ?_) (fun c11 => ?_)
          · have h := itf c11 h
            refine G_iinc F (v := (s3_1 + (1 : Int32))) (L2 := [some (.inr a0), some (.inl a1), some (.inr a2), some (.inl (s3_1 + (1 : Int32)))]) dX5_tells_45 (by decide) rfl rfl rfl ?_
            refine G_goto F (tgt := 2) dX5_tells_48 (by decide) ?_
            cases h
            exact G_sub F (L2 := [some (.inr a0), some (.inl a1), some (.inr a2), some (.inl (s3_1 + (1 : Int32)))]) ⟨rfl, ⟨rfl, ⟨rfl, ⟨rfl, trivial⟩⟩⟩⟩ (hP1 _ rfl)
          · have h := itt c11 h
            refine G_aload_n F dX5_tells_34 rfl ?_
            obtain ⟨v12, e_v12, h⟩ := bnd h
            refine G_getR F okX5 (f := 1) (by decide) q271 rfl dX5_tells_35 e_v12 ?_
            refine G_iload_n F dX5_tells_38 rfl ?_
            obtain ⟨v13, e_v13, h⟩ := bnd h
            refine G_aald F (t := 3) (by decide) dX5_tells_39 e_v13 ?_
            refine G_aload_n F dX5_tells_40 rfl ?_
            obtain ⟨⟨v14, m15⟩, e_v14, h⟩ := bnd h
            obtain ⟨hc_v14, e_v14⟩ := hp_onS_of e_v14
            have K_v14 : G X cx 4 (Qm X cx (some (.inl rv)) m_ nx 0 0) (0) (0) m15 (nx) [some (.inr a0), some (.inl a1), some (.inr a2), some (.inl s3_1)] [.inl v14] 44 := by
              cases h
              have h := KR1 _ (hE1 _ rfl)
              cases h
              exact G_iret F rfl (Nat.le_refl _) (Nat.le_refl _) rfl dX5_tells_44
            rcases hc_v14 with hc_v14 | hc_v14 | hc_v14
            · exact G_callUv F (As := [.inr a2]) (st := []) (x := ⟨"MissedTrains$Sum", "told", "(LMissedTrains$Asked;)I"⟩) (owner := "MissedTrains$Sum") (metX9_told X e_v14) hc_v14 rfl (lw_U q979 q981 q984 q980 q117 q985) rfl hdfX9_told ⟨by omega, by decide⟩ rfl (Nat.le_of_ble_eq_true rfl) ⟨by omega, by omega⟩ dX5_tells_41 K_v14
            · exact G_callUv F (As := [.inr a2]) (st := []) (x := ⟨"MissedTrains$Sum", "told", "(LMissedTrains$Asked;)I"⟩) (owner := "MissedTrains$Sum") (metX9_told X e_v14) hc_v14 rfl (lw_U q979 q981 q983 q980 q117 q985) rfl hdfX9_told ⟨by omega, by decide⟩ rfl (Nat.le_of_ble_eq_true rfl) ⟨by omega, by omega⟩ dX5_tells_41 K_v14
            · exact G_callUv F (As := [.inr a2]) (st := []) (x := ⟨"MissedTrains$Sum", "told", "(LMissedTrains$Asked;)I"⟩) (owner := "MissedTrains$Sum") (metX9_told X e_v14) hc_v14 rfl (lw_U q979 q981 q982 q980 q117 q985) rfl hdfX9_told ⟨by omega, by decide⟩ rfl (Nat.le_of_ble_eq_true rfl) ⟨by omega, by omega⟩ dX5_tells_41 K_v14
        rcases hw_v9 with ⟨hc_, hM_⟩ | ⟨hc_, hM_⟩ | ⟨hc_, hM_⟩
        · exact G_callAv F (As := [.inr a2]) (st := []) (x := ⟨"MissedTrains$Condition", "holds", "(LMissedTrains$Asked;)I"⟩) (owner := "MissedTrains$Condition") hM_ hc_ rfl (lw_U q943 q945 q978 q975 q122 q976) q944 hdA_holds ⟨by omega, by decide⟩ rfl (Nat.le_of_ble_eq_true rfl) ⟨by omega, by omega⟩ dX5_tells_27 K_v9
        · exact G_callAv F (As := [.inr a2]) (st := []) (x := ⟨"MissedTrains$Condition", "holds", "(LMissedTrains$Asked;)I"⟩) (owner := "MissedTrains$Condition") hM_ hc_ rfl (lw_U q943 q945 q971 q972 q123 q973) q944 hdA_holds ⟨by omega, by decide⟩ rfl (Nat.le_of_ble_eq_true rfl) ⟨by omega, by omega⟩ dX5_tells_27 K_v9
        · exact G_callAv F (As := [.inr a2]) (st := []) (x := ⟨"MissedTrains$Condition", "holds", "(LMissedTrains$Asked;)I"⟩) (owner := "MissedTrains$Condition") hM_ hc_ rfl (lw_U q943 q945 q946 q947 q124 q948) q944 hdA_holds ⟨by omega, by decide⟩ rfl (Nat.le_of_ble_eq_true rfl) ⟨by omega, by omega⟩ dX5_tells_27 K_v9
  have hI := iter_ok (fun (s : (Int32 × Hp)) => match s with | (s3_1, m1) => G X cx 4 (Qm X cx (some (.inl rv)) m_ nx 0 0) (0) (0) m1 (nx) [some (.inr a0), some (.inl a1), some (.inr a2), some (.inl s3_1)] [] 2) (fun q => q = r1) KB1 _ _ _ hr1 rfl
  exact G_sub F (L2 := [some (.inr a0), some (.inl a1), some (.inr a2), some (.inl (0 : Int32))]) ⟨rfl, ⟨rfl, ⟨rfl, ⟨rfl, trivial⟩⟩⟩⟩ hI

theorem metX0_tells (X : Gx) {m : Hp} {nx : Nat} {a0 : Option Nat} {a1 : Int32} {a2 : Int32} {rv : Int32} {m_ : Hp} (h : fX0_tells m a0 a1 a2 = some (rv, m_)) : Con X (187) yX0_tells cX0_tells 3 ((Option.some FieldType.int)) [.inr a0, .inl a1, .inl a2] m nx (some (.inl rv)) m_ 0 0 := by
  refine Con.of (own := RX0) (nm := "tells") (L := [some (.inr a0), some (.inl a1), some (.inl a2)]) (by decide +kernel) rfl rfl (Nat.le_of_ble_eq_true rfl) (ent_of 0 rfl) ?_
  intro cx F
  refine G_aload_n F dX0_tells_0 rfl ?_
  obtain ⟨v1, e_v1, h⟩ := bnd h
  refine G_getR F okX0 (f := 11) (by decide) q349 rfl dX0_tells_1 e_v1 ?_
  refine G_iload_n F dX0_tells_4 rfl ?_
  refine G_aload_n F dX0_tells_5 rfl ?_
  obtain ⟨v2, e_v2, h⟩ := bnd h
  refine G_getR F okX0 (f := 6) (by decide) q341 rfl dX0_tells_6 e_v2 ?_
  obtain ⟨⟨v3, m4⟩, e_v3, h⟩ := bnd h
  obtain ⟨hc_v3, e_v3⟩ := hp_on_of e_v3
  refine G_callVv F (As := [.inl a1, .inr v2]) (st := []) (metX5_tells X e_v3) hc_v3 rfl rfl (lw_V q939 q940 q941 q107 q942) hdfX5_tells ⟨by omega, by decide⟩ rfl (Nat.le_of_ble_eq_true rfl) ⟨by omega, by omega⟩ dX0_tells_9 ?_
  refine G_iload_n F dX0_tells_12 rfl ?_
  obtain ⟨v5, e_v5, h⟩ := bnd h
  refine G_callSv F (As := [.inl v3, .inl a2]) (st := []) (metX0_held X e_v5) (lw_S q987 q988 q102 q989) hdfX0_held ⟨by omega, by decide⟩ rfl (Nat.le_of_ble_eq_true rfl) ⟨by omega, by omega⟩ dX0_tells_13 ?_
  cases h
  exact G_iret F rfl (Nat.le_refl _) (Nat.le_refl _) rfl dX0_tells_16

theorem metX1_init (X : Gx) (m : Hp) (nx a0 : Nat) : Con X 2 yX1_init cX1_init 1 ((none : Option FieldType)) [.inr (some a0)] m nx none m 0 0 := by
  refine Con.of (own := RX1) (nm := "<init>") (L := [some (.inr (some a0))]) (by decide +kernel) rfl rfl (Nat.le_of_ble_eq_true rfl) (ent_of 0 rfl) ?_
  intro cx F
  refine G_aload_n F dX1_init_0 rfl ?_
  refine G_objInit F q146 q134 q135 (by omega) (Nat.le_of_ble_eq_true rfl) dX1_init_1 ?_
  exact G_vret F rfl (Nat.le_refl _) (Nat.le_refl _) rfl dX1_init_4

theorem metX2_init (X : Gx) {m : Hp} {nx : Nat} {a0 : Nat} (h : fX2_init a0 = some ()) : Con X (3) yX2_init cX2_init 1 ((none : Option FieldType)) [.inr (some a0)] m nx none m 0 0 := by
  refine Con.of (own := RX2) (nm := "<init>") (L := [some (.inr (some a0))]) (by decide +kernel) rfl rfl (Nat.le_of_ble_eq_true rfl) (ent_of 0 rfl) ?_
  intro cx F
  refine G_aload_n F dX2_init_0 rfl ?_
  refine G_callIN0 F (As := []) (st := []) (metX1_init X _ _ _) q145 q103 q143 q144 rfl hdfX1_init ⟨by omega, by decide⟩ rfl (Nat.le_of_ble_eq_true rfl) ⟨by omega, by omega⟩ dX2_init_1 ?_
  cases h
  exact G_vret F rfl (Nat.le_refl _) (Nat.le_refl _) rfl dX2_init_4

theorem metX4_init (X : Gx) {m : Hp} {nx : Nat} {a0 : Nat} (h : fX4_init a0 = some ()) : Con X (2) yX4_init cX4_init 1 ((none : Option FieldType)) [.inr (some a0)] m nx none m 0 0 := by
  refine Con.of (own := RX4) (nm := "<init>") (L := [some (.inr (some a0))]) (by decide +kernel) rfl rfl (Nat.le_of_ble_eq_true rfl) (ent_of 0 rfl) ?_
  intro cx F
  refine G_aload_n F dX4_init_0 rfl ?_
  refine G_objInit F q193 q134 q135 (by omega) (Nat.le_of_ble_eq_true rfl) dX4_init_1 ?_
  cases h
  exact G_vret F rfl (Nat.le_refl _) (Nat.le_refl _) rfl dX4_init_4

theorem metX3_init (X : Gx) {m : Hp} {nx : Nat} {a0 : Nat} {a1 : Option Nat} {m_ : Hp} {dc ds : Nat} (h : fX3_init m nx a0 a1 = some (m_, dc, ds)) : Con X (3) yX3_init cX3_init 3 ((none : Option FieldType)) [.inr (some a0), .inr a1] m nx none m_ dc ds := by
  refine Con.of (own := RX3) (nm := "<init>") (L := [some (.inr (some a0)), some (.inr a1), none]) (by decide +kernel) rfl rfl (Nat.le_of_ble_eq_true rfl) (ent_of 1 rfl) ?_
  intro cx F
  refine G_aload_n F dX3_init_0 rfl ?_
  refine G_aload_n F dX3_init_1 rfl ?_
  obtain ⟨m1, e_m1, h⟩ := bnd h
  refine G_putVF F okX3 (f := 8) (by decide) q239 rfl rfl rfl dX3_init_2 (vfit_obj _ _) e_m1 ?_
  refine G_aload_n F dX3_init_5 rfl ?_
  refine G_objInit F q186 q134 q135 (by omega) (Nat.le_of_ble_eq_true rfl) dX3_init_6 ?_
  refine G_aload_n F dX3_init_9 rfl ?_
  refine G_bipush F (v := (12 : Int32)) dX3_init_10 (by decide) ?_
  obtain ⟨m2, e_m2, h⟩ := bnd h
  obtain ⟨D3, C3, h, hD3, hC3⟩ := andA_of h; try dsimp only at hD3 hC3
  refine G_newrc F (t := 6) (N := 12) q187 q188 rfl (by decide) (by decide) (by decide) (by decide) (by omega) (by omega) dX3_init_12 e_m2 ?_
  obtain ⟨m4, e_m4, h⟩ := bnd h
  refine G_putVF F okX3 (f := 0) (by decide) q225 rfl rfl rfl dX3_init_15 (vfit_arr _ _) e_m4 ?_
  refine G_aload_n F dX3_init_18 rfl ?_
  refine G_bipush F (v := (48 : Int32)) dX3_init_19 (by decide) ?_
  obtain ⟨m5, e_m5, h⟩ := bnd h
  obtain ⟨D6, C6, h, hD6, hC6⟩ := andA_of h; try dsimp only at hD6 hC6
  refine G_newac F (t := 0) (N := 48) q180 rfl (by decide) (by decide) (by decide) (by decide) (by omega) (by omega) dX3_init_21 e_m5 ?_
  obtain ⟨m7, e_m7, h⟩ := bnd h
  refine G_putVF F okX3 (f := 1) (by decide) q227 rfl rfl rfl dX3_init_23 (vfit_arr _ _) e_m7 ?_
  refine G_aload_n F dX3_init_26 rfl ?_
  refine G_bipush F (v := (12 : Int32)) dX3_init_27 (by decide) ?_
  obtain ⟨m8, e_m8, h⟩ := bnd h
  obtain ⟨D9, C9, h, hD9, hC9⟩ := andA_of h; try dsimp only at hD9 hC9
  refine G_newac F (t := 0) (N := 12) q180 rfl (by decide) (by decide) (by decide) (by decide) (by omega) (by omega) dX3_init_29 e_m8 ?_
  obtain ⟨m10, e_m10, h⟩ := bnd h
  refine G_putVF F okX3 (f := 2) (by decide) q228 rfl rfl rfl dX3_init_31 (vfit_arr _ _) e_m10 ?_
  refine G_iconst F (v := (0 : Int32)) dX3_init_34 (by decide) ?_
  refine G_istore_n F (L2 := [some (.inr (some a0)), some (.inr a1), some (.inl (0 : Int32))]) dX3_init_35 (by decide) rfl ?_
  obtain ⟨⟨r11, e11, f11⟩, hr11, h⟩ := bnd h
  obtain ⟨D18, C18, h, hD18, hC18⟩ := andA_of h; try dsimp only at hD18 hC18
  have KE11 : ∀ (m17 : Hp), m17 = r11 → G X cx 3 (Qm X cx none m_ nx dc ds) (0 + 1 + 1 + 1 + e11) (0 + 12 + 48 + 12 + f11) m17 (nx + 1 + 1 + 1 + e11) [none, none, none] [] 61 := by
    intro m17 hq
    subst hq
    try dsimp only at h
    cases h
    exact G_vret F rfl (by omega) (by omega) (by omega) dX3_init_61
  have KB11 : ∀ s nx11 k11 n11 o11 d11 c11, fX3_init_L36 (some a0) s nx11 = some (o11, d11, c11) → k11 + d11 ≤ dc → n11 + c11 ≤ ds → (∀ s', o11 = Sum.inl s' → (fun (s : (Int32 × Hp)) nx11 k11 n11 => match s with | (s2_11, m11) => G X cx 3 (Qm X cx none m_ nx dc ds) (k11) (n11) m11 (nx11) [some (.inr (some a0)), none, some (.inl s2_11)] [] 36) s' (nx11 + d11) (k11 + d11) (n11 + c11)) → (∀ q, o11 = Sum.inr q → (fun q a_ b_ c_ => q = r11 ∧ a_ = nx + 1 + 1 + 1 + e11 ∧ b_ = 0 + 1 + 1 + 1 + e11 ∧ c_ = 0 + 12 + 48 + 12 + f11) q (nx11 + d11) (k11 + d11) (n11 + c11)) → (fun (s : (Int32 × Hp)) nx11 k11 n11 => match s with | (s2_11, m11) => G X cx 3 (Qm X cx none m_ nx dc ds) (k11) (n11) m11 (nx11) [some (.inr (some a0)), none, some (.inl s2_11)] [] 36) s nx11 k11 n11 := by
    intro s nx11 k11 n11 o11 d11 c11 h hk11 hn11 hP11 hE11
    obtain ⟨s2_11, m11⟩ := s
    try dsimp only at hP11 hE11 ⊢
    refine G_iload_n F dX3_init_36 rfl ?_
    refine G_bipush F (v := (12 : Int32)) dX3_init_37 (by decide) ?_
    refine G_icmp_ge F (tgt := 61) dX3_init_39 (by decide) (fun c12 => ?_) (fun c12 => ?_)
    · have h := itt c12 h
      cases h
      obtain ⟨q0_, q1_, q2_, q3_⟩ := hE11 _ rfl
      exact G_cnt (G_sub F (L2 := [none, none, none]) trivial (KE11 _ q0_)) (by omega) (by omega) (by omega)
    · have h := itf c12 h
      refine G_aload_n F dX3_init_42 rfl ?_
      obtain ⟨v13, e_v13, h⟩ := bnd h
      refine G_getR F okX3 (f := 0) (by decide) q225 rfl dX3_init_43 e_v13 ?_
      refine G_iload_n F dX3_init_46 rfl ?_
      obtain ⟨m14, e_m14, h⟩ := bnd h
      obtain ⟨D15, C15, h, hD15, hC15⟩ := andA_of h; try dsimp only at hD15 hC15
      refine G_newc F okX4 (fs := dfX4) q187 q189 q106 (by decide) (by omega) (by omega) dX3_init_47 e_m14 ?_
      refine G_dup F dX3_init_50 ?_
      obtain ⟨_u, e_u, h⟩ := bnd h
      refine G_callIN0 F (As := []) (st := [.inr (some (nx11)), .inl s2_11, .inr v13]) (metX4_init X e_u) q192 q106 q190 q191 rfl hdfX4_init ⟨by omega, by decide⟩ rfl (Nat.le_of_ble_eq_true rfl) ⟨by omega, by omega⟩ dX3_init_51 ?_
      obtain ⟨m16, e_m16, h⟩ := bnd h
      refine G_aast F (t := 6) (by decide) rfl dX3_init_54 e_m16 ?_
      refine G_iinc F (v := (s2_11 + (1 : Int32))) (L2 := [some (.inr (some a0)), none, some (.inl (s2_11 + (1 : Int32)))]) dX3_init_55 (by decide) rfl rfl rfl ?_
      refine G_goto F (tgt := 36) dX3_init_58 (by decide) ?_
      cases h
      exact G_cnt (G_sub F (L2 := [some (.inr (some a0)), none, some (.inl (s2_11 + (1 : Int32)))]) ⟨rfl, ⟨rfl, trivial⟩⟩ (hP11 _ rfl)) (by omega) (by omega) (by omega)
  have hI := iterA_ok dc ds (fun (s : (Int32 × Hp)) nx11 k11 n11 => match s with | (s2_11, m11) => G X cx 3 (Qm X cx none m_ nx dc ds) (k11) (n11) m11 (nx11) [some (.inr (some a0)), none, some (.inl s2_11)] [] 36) (fun q a_ b_ c_ => q = r11 ∧ a_ = nx + 1 + 1 + 1 + e11 ∧ b_ = 0 + 1 + 1 + 1 + e11 ∧ c_ = 0 + 12 + 48 + 12 + f11) KB11 _ _ _ _ _ _ _ _ hr11 (by omega) (by omega) ⟨rfl, rfl, rfl, rfl⟩
  exact G_sub F (L2 := [some (.inr (some a0)), none, some (.inl (0 : Int32))]) ⟨rfl, ⟨rfl, trivial⟩⟩ hI

theorem metX5_init (X : Gx) {m : Hp} {nx : Nat} {a0 : Nat} {m_ : Hp} {dc ds : Nat} (h : fX5_init m nx a0 = some (m_, dc, ds)) : Con X (2) yX5_init cX5_init 1 ((none : Option FieldType)) [.inr (some a0)] m nx none m_ dc ds := by
  refine Con.of (own := RX5) (nm := "<init>") (L := [some (.inr (some a0))]) (by decide +kernel) rfl rfl (Nat.le_of_ble_eq_true rfl) (ent_of 0 rfl) ?_
  intro cx F
  refine G_aload_n F dX5_init_0 rfl ?_
  refine G_objInit F q264 q134 q135 (by omega) (Nat.le_of_ble_eq_true rfl) dX5_init_1 ?_
  refine G_aload_n F dX5_init_4 rfl ?_
  refine G_bipush F (v := (16 : Int32)) dX5_init_5 (by decide) ?_
  obtain ⟨m1, e_m1, h⟩ := bnd h
  obtain ⟨D2, C2, h, hD2, hC2⟩ := andA_of h; try dsimp only at hD2 hC2
  refine G_newac F (t := 0) (N := 16) q180 rfl (by decide) (by decide) (by decide) (by decide) (by omega) (by omega) dX5_init_7 e_m1 ?_
  obtain ⟨m3, e_m3, h⟩ := bnd h
  refine G_putVF F okX5 (f := 0) (by decide) q269 rfl rfl rfl dX5_init_9 (vfit_arr _ _) e_m3 ?_
  refine G_aload_n F dX5_init_12 rfl ?_
  refine G_bipush F (v := (16 : Int32)) dX5_init_13 (by decide) ?_
  obtain ⟨m4, e_m4, h⟩ := bnd h
  obtain ⟨D5, C5, h, hD5, hC5⟩ := andA_of h; try dsimp only at hD5 hC5
  refine G_newrc F (t := 3) (N := 16) q265 q266 rfl (by decide) (by decide) (by decide) (by decide) (by omega) (by omega) dX5_init_15 e_m4 ?_
  obtain ⟨m6, e_m6, h⟩ := bnd h
  refine G_putVF F okX5 (f := 1) (by decide) q271 rfl rfl rfl dX5_init_18 (vfit_arr _ _) e_m6 ?_
  refine G_aload_n F dX5_init_21 rfl ?_
  refine G_bipush F (v := (16 : Int32)) dX5_init_22 (by decide) ?_
  obtain ⟨m7, e_m7, h⟩ := bnd h
  obtain ⟨D8, C8, h, hD8, hC8⟩ := andA_of h; try dsimp only at hD8 hC8
  refine G_newrc F (t := 4) (N := 16) q267 q268 rfl (by decide) (by decide) (by decide) (by decide) (by omega) (by omega) dX5_init_24 e_m7 ?_
  obtain ⟨m9, e_m9, h⟩ := bnd h
  refine G_putVF F okX5 (f := 2) (by decide) q273 rfl rfl rfl dX5_init_27 (vfit_arr _ _) e_m9 ?_
  cases h
  exact G_vret F rfl (by omega) (by omega) (by omega) dX5_init_30

theorem metX6_init (X : Gx) {m : Hp} {nx : Nat} {a0 : Nat} {m_ : Hp} {dc ds : Nat} (h : fX6_init m nx a0 = some (m_, dc, ds)) : Con X (2) yX6_init cX6_init 1 ((none : Option FieldType)) [.inr (some a0)] m nx none m_ dc ds := by
  refine Con.of (own := RX6) (nm := "<init>") (L := [some (.inr (some a0))]) (by decide +kernel) rfl rfl (Nat.le_of_ble_eq_true rfl) (ent_of 0 rfl) ?_
  intro cx F
  refine G_aload_n F dX6_init_0 rfl ?_
  refine G_objInit F q294 q134 q135 (by omega) (Nat.le_of_ble_eq_true rfl) dX6_init_1 ?_
  refine G_aload_n F dX6_init_4 rfl ?_
  refine G_bipush F (v := (8 : Int32)) dX6_init_5 (by decide) ?_
  obtain ⟨m1, e_m1, h⟩ := bnd h
  obtain ⟨D2, C2, h, hD2, hC2⟩ := andA_of h; try dsimp only at hD2 hC2
  refine G_newac F (t := 0) (N := 8) q180 rfl (by decide) (by decide) (by decide) (by decide) (by omega) (by omega) dX6_init_7 e_m1 ?_
  obtain ⟨m3, e_m3, h⟩ := bnd h
  refine G_putVF F okX6 (f := 0) (by decide) q295 rfl rfl rfl dX6_init_9 (vfit_arr _ _) e_m3 ?_
  refine G_aload_n F dX6_init_12 rfl ?_
  refine G_bipush F (v := (8 : Int32)) dX6_init_13 (by decide) ?_
  obtain ⟨m4, e_m4, h⟩ := bnd h
  obtain ⟨D5, C5, h, hD5, hC5⟩ := andA_of h; try dsimp only at hD5 hC5
  refine G_newac F (t := 0) (N := 8) q180 rfl (by decide) (by decide) (by decide) (by decide) (by omega) (by omega) dX6_init_15 e_m4 ?_
  obtain ⟨m6, e_m6, h⟩ := bnd h
  refine G_putVF F okX6 (f := 1) (by decide) q299 rfl rfl rfl dX6_init_17 (vfit_arr _ _) e_m6 ?_
  refine G_aload_n F dX6_init_20 rfl ?_
  refine G_iconst F (v := (1 : Int32)) dX6_init_21 (by decide) ?_
  obtain ⟨m7, e_m7, h⟩ := bnd h
  refine G_putV F okX6 (f := 4) (by decide) q310 rfl rfl dX6_init_22 (hp_pZ_of e_m7).1 (hp_pZ_of e_m7).2 ?_
  cases h
  exact G_vret F rfl (by omega) (by omega) (by omega) dX6_init_25

theorem metX0_init (X : Gx) {m : Hp} {nx : Nat} {a0 : Nat} {m_ : Hp} {dc ds : Nat} (h : fX0_init m nx a0 = some (m_, dc, ds)) : Con X (4) yX0_init cX0_init 2 ((none : Option FieldType)) [.inr (some a0)] m nx none m_ dc ds := by
  refine Con.of (own := RX0) (nm := "<init>") (L := [some (.inr (some a0)), none]) (by decide +kernel) rfl rfl (Nat.le_of_ble_eq_true rfl) (ent_of 1 rfl) ?_
  intro cx F
  refine G_aload_n F dX0_init_0 rfl ?_
  refine G_objInit F q133 q134 q135 (by omega) (Nat.le_of_ble_eq_true rfl) dX0_init_1 ?_
  refine G_aload_n F dX0_init_4 rfl ?_
  refine G_bipush F (v := (48 : Int32)) dX0_init_5 (by decide) ?_
  obtain ⟨m1, e_m1, h⟩ := bnd h
  obtain ⟨D2, C2, h, hD2, hC2⟩ := andA_of h; try dsimp only at hD2 hC2
  refine G_newrc F (t := 5) (N := 48) q136 q137 rfl (by decide) (by decide) (by decide) (by decide) (by omega) (by omega) dX0_init_7 e_m1 ?_
  obtain ⟨m3, e_m3, h⟩ := bnd h
  refine G_putVF F okX0 (f := 0) (by decide) q328 rfl rfl rfl dX0_init_10 (vfit_arr _ _) e_m3 ?_
  refine G_aload_n F dX0_init_13 rfl ?_
  refine G_sipush F (v := (384 : Int32)) dX0_init_14 (by decide) ?_
  obtain ⟨m4, e_m4, h⟩ := bnd h
  obtain ⟨D5, C5, h, hD5, hC5⟩ := andA_of h; try dsimp only at hD5 hC5
  refine G_newac F (t := 0) (N := 384) q180 rfl (by decide) (by decide) (by decide) (by decide) (by omega) (by omega) dX0_init_17 e_m4 ?_
  obtain ⟨m6, e_m6, h⟩ := bnd h
  refine G_putVF F okX0 (f := 1) (by decide) q330 rfl rfl rfl dX0_init_19 (vfit_arr _ _) e_m6 ?_
  refine G_aload_n F dX0_init_22 rfl ?_
  refine G_sipush F (v := (384 : Int32)) dX0_init_23 (by decide) ?_
  obtain ⟨m7, e_m7, h⟩ := bnd h
  obtain ⟨D8, C8, h, hD8, hC8⟩ := andA_of h; try dsimp only at hD8 hC8
  refine G_newac F (t := 0) (N := 384) q180 rfl (by decide) (by decide) (by decide) (by decide) (by omega) (by omega) dX0_init_26 e_m7 ?_
  obtain ⟨m9, e_m9, h⟩ := bnd h
  refine G_putVF F okX0 (f := 2) (by decide) q332 rfl rfl rfl dX0_init_28 (vfit_arr _ _) e_m9 ?_
  refine G_aload_n F dX0_init_31 rfl ?_
  refine G_iconst F (v := (5 : Int32)) dX0_init_32 (by decide) ?_
  obtain ⟨m10, e_m10, h⟩ := bnd h
  refine G_putV F okX0 (f := 5) (by decide) q339 rfl rfl dX0_init_33 (vfit_int _) e_m10 ?_
  refine G_aload_n F dX0_init_36 rfl ?_
  obtain ⟨m11, e_m11, h⟩ := bnd h
  obtain ⟨D12, C12, h, hD12, hC12⟩ := andA_of h; try dsimp only at hD12 hC12
  refine G_newc F okX2 (fs := dfX2) q138 q139 q104 (by decide) (by omega) (by omega) dX0_init_37 e_m11 ?_
  refine G_dup F dX0_init_40 ?_
  obtain ⟨_u, e_u, h⟩ := bnd h
  refine G_callIN0 F (As := []) (st := [.inr (some (nx + 1 + 1 + 1)), .inr (some a0)]) (metX2_init X e_u) q142 q104 q140 q141 rfl hdfX2_init ⟨by omega, by decide⟩ rfl (Nat.le_of_ble_eq_true rfl) ⟨by omega, by omega⟩ dX0_init_41 ?_
  obtain ⟨m13, e_m13, h⟩ := bnd h
  refine G_putVF F okX0 (f := 6) (by decide) q341 rfl rfl rfl dX0_init_44 (vfit_obj _ _) e_m13 ?_
  refine G_aload_n F dX0_init_47 rfl ?_
  obtain ⟨m14, e_m14, h⟩ := bnd h
  obtain ⟨D15, C15, h, hD15, hC15⟩ := andA_of h; try dsimp only at hD15 hC15
  refine G_newc F okX3 (fs := dfX3) q181 q182 q105 (by decide) (by omega) (by omega) dX0_init_48 e_m14 ?_
  refine G_dup F dX0_init_51 ?_
  refine G_aload_n F dX0_init_52 rfl ?_
  obtain ⟨⟨m16, d17, c18⟩, e_m16, h⟩ := bnd h
  obtain ⟨D19, C19, h, hD19, hC19⟩ := andA_of h; try dsimp only at hD19 hC19
  refine G_callI0 F (As := [.inr (some a0)]) (st := [.inr (some (nx + 1 + 1 + 1 + 1)), .inr (some a0)]) (metX3_init X e_m16) q185 q105 q183 q184 rfl hdfX3_init ⟨by omega, by decide⟩ rfl (Nat.le_of_ble_eq_true rfl) ⟨by omega, by omega⟩ dX0_init_53 ?_
  obtain ⟨m20, e_m20, h⟩ := bnd h
  refine G_putVF F okX0 (f := 7) (by decide) q342 rfl rfl rfl dX0_init_56 (vfit_obj _ _) e_m20 ?_
  refine G_aload_n F dX0_init_59 rfl ?_
  obtain ⟨m21, e_m21, h⟩ := bnd h
  obtain ⟨D22, C22, h, hD22, hC22⟩ := andA_of h; try dsimp only at hD22 hC22
  refine G_newc F okX3 (fs := dfX3) q181 q182 q105 (by decide) (by omega) (by omega) dX0_init_60 e_m21 ?_
  refine G_dup F dX0_init_63 ?_
  refine G_aload_n F dX0_init_64 rfl ?_
  obtain ⟨⟨m23, d24, c25⟩, e_m23, h⟩ := bnd h
  obtain ⟨D26, C26, h, hD26, hC26⟩ := andA_of h; try dsimp only at hD26 hC26
  refine G_callI0 F (As := [.inr (some a0)]) (st := [.inr (some (nx + 1 + 1 + 1 + 1 + 1 + d17)), .inr (some a0)]) (metX3_init X e_m23) q185 q105 q183 q184 rfl hdfX3_init ⟨by omega, by decide⟩ rfl (Nat.le_of_ble_eq_true rfl) ⟨by omega, by omega⟩ dX0_init_65 ?_
  obtain ⟨m27, e_m27, h⟩ := bnd h
  refine G_putVF F okX0 (f := 8) (by decide) q343 rfl rfl rfl dX0_init_68 (vfit_obj _ _) e_m27 ?_
  refine G_aload_n F dX0_init_71 rfl ?_
  obtain ⟨m28, e_m28, h⟩ := bnd h
  obtain ⟨D29, C29, h, hD29, hC29⟩ := andA_of h; try dsimp only at hD29 hC29
  refine G_newc F okX3 (fs := dfX3) q181 q182 q105 (by decide) (by omega) (by omega) dX0_init_72 e_m28 ?_
  refine G_dup F dX0_init_75 ?_
  refine G_aload_n F dX0_init_76 rfl ?_
  obtain ⟨⟨m30, d31, c32⟩, e_m30, h⟩ := bnd h
  obtain ⟨D33, C33, h, hD33, hC33⟩ := andA_of h; try dsimp only at hD33 hC33
  refine G_callI0 F (As := [.inr (some a0)]) (st := [.inr (some (nx + 1 + 1 + 1 + 1 + 1 + d17 + 1 + d24)), .inr (some a0)]) (metX3_init X e_m30) q185 q105 q183 q184 rfl hdfX3_init ⟨by omega, by decide⟩ rfl (Nat.le_of_ble_eq_true rfl) ⟨by omega, by omega⟩ dX0_init_77 ?_
  obtain ⟨m34, e_m34, h⟩ := bnd h
  refine G_putVF F okX0 (f := 9) (by decide) q344 rfl rfl rfl dX0_init_80 (vfit_obj _ _) e_m34 ?_
  refine G_aload_n F dX0_init_83 rfl ?_
  refine G_sipush F (v := (260 : Int32)) dX0_init_84 (by decide) ?_
  obtain ⟨m35, e_m35, h⟩ := bnd h
  obtain ⟨D36, C36, h, hD36, hC36⟩ := andA_of h; try dsimp only at hD36 hC36
  refine G_newac F (t := 1) (N := 260) q287 rfl (by decide) (by decide) (by decide) (by decide) (by omega) (by omega) dX0_init_87 e_m35 ?_
  obtain ⟨m37, e_m37, h⟩ := bnd h
  refine G_putVF F okX0 (f := 10) (by decide) q347 rfl rfl rfl dX0_init_89 (vfit_arr _ _) e_m37 ?_
  refine G_aload_n F dX0_init_92 rfl ?_
  obtain ⟨m38, e_m38, h⟩ := bnd h
  obtain ⟨D39, C39, h, hD39, hC39⟩ := andA_of h; try dsimp only at hD39 hC39
  refine G_newc F okX5 (fs := dfX5) q259 q260 q107 (by decide) (by omega) (by omega) dX0_init_93 e_m38 ?_
  refine G_dup F dX0_init_96 ?_
  obtain ⟨⟨m40, d41, c42⟩, e_m40, h⟩ := bnd h
  obtain ⟨D43, C43, h, hD43, hC43⟩ := andA_of h; try dsimp only at hD43 hC43
  refine G_callIN0 F (As := []) (st := [.inr (some (nx + 1 + 1 + 1 + 1 + 1 + d17 + 1 + d24 + 1 + d31 + 1)), .inr (some a0)]) (metX5_init X e_m40) q263 q107 q261 q262 rfl hdfX5_init ⟨by omega, by decide⟩ rfl (Nat.le_of_ble_eq_true rfl) ⟨by omega, by omega⟩ dX0_init_97 ?_
  obtain ⟨m44, e_m44, h⟩ := bnd h
  refine G_putV F okX0 (f := 11) (by decide) q349 rfl rfl dX0_init_100 (vfit_obj _ _) e_m44 ?_
  refine G_aload_n F dX0_init_103 rfl ?_
  refine G_bipush F (v := (10 : Int32)) dX0_init_104 (by decide) ?_
  obtain ⟨m45, e_m45, h⟩ := bnd h
  obtain ⟨D46, C46, h, hD46, hC46⟩ := andA_of h; try dsimp only at hD46 hC46
  refine G_newac F (t := 0) (N := 10) q180 rfl (by decide) (by decide) (by decide) (by decide) (by omega) (by omega) dX0_init_106 e_m45 ?_
  obtain ⟨m47, e_m47, h⟩ := bnd h
  refine G_putVF F okX0 (f := 14) (by decide) q352 rfl rfl rfl dX0_init_108 (vfit_arr _ _) e_m47 ?_
  refine G_aload_n F dX0_init_111 rfl ?_
  refine G_bipush F (v := (10 : Int32)) dX0_init_112 (by decide) ?_
  obtain ⟨m48, e_m48, h⟩ := bnd h
  obtain ⟨D49, C49, h, hD49, hC49⟩ := andA_of h; try dsimp only at hD49 hC49
  refine G_newac F (t := 0) (N := 10) q180 rfl (by decide) (by decide) (by decide) (by decide) (by omega) (by omega) dX0_init_114 e_m48 ?_
  obtain ⟨m50, e_m50, h⟩ := bnd h
  refine G_putVF F okX0 (f := 15) (by decide) q353 rfl rfl rfl dX0_init_116 (vfit_arr _ _) e_m50 ?_
  refine G_aload_n F dX0_init_119 rfl ?_
  refine G_bipush F (v := (48 : Int32)) dX0_init_120 (by decide) ?_
  obtain ⟨m51, e_m51, h⟩ := bnd h
  obtain ⟨D52, C52, h, hD52, hC52⟩ := andA_of h; try dsimp only at hD52 hC52
  refine G_newac F (t := 0) (N := 48) q180 rfl (by decide) (by decide) (by decide) (by decide) (by omega) (by omega) dX0_init_122 e_m51 ?_
  obtain ⟨m53, e_m53, h⟩ := bnd h
  refine G_putVF F okX0 (f := 16) (by decide) q354 rfl rfl rfl dX0_init_124 (vfit_arr _ _) e_m53 ?_
  refine G_aload_n F dX0_init_127 rfl ?_
  refine G_bipush F (v := (48 : Int32)) dX0_init_128 (by decide) ?_
  obtain ⟨m54, e_m54, h⟩ := bnd h
  obtain ⟨D55, C55, h, hD55, hC55⟩ := andA_of h; try dsimp only at hD55 hC55
  refine G_newac F (t := 0) (N := 48) q180 rfl (by decide) (by decide) (by decide) (by decide) (by omega) (by omega) dX0_init_130 e_m54 ?_
  obtain ⟨m56, e_m56, h⟩ := bnd h
  refine G_putVF F okX0 (f := 17) (by decide) q355 rfl rfl rfl dX0_init_132 (vfit_arr _ _) e_m56 ?_
  refine G_aload_n F dX0_init_135 rfl ?_
  refine G_bipush F (v := (48 : Int32)) dX0_init_136 (by decide) ?_
  obtain ⟨m57, e_m57, h⟩ := bnd h
  obtain ⟨D58, C58, h, hD58, hC58⟩ := andA_of h; try dsimp only at hD58 hC58
  refine G_newac F (t := 0) (N := 48) q180 rfl (by decide) (by decide) (by decide) (by decide) (by omega) (by omega) dX0_init_138 e_m57 ?_
  obtain ⟨m59, e_m59, h⟩ := bnd h
  refine G_putVF F okX0 (f := 18) (by decide) q356 rfl rfl rfl dX0_init_140 (vfit_arr _ _) e_m59 ?_
  refine G_aload_n F dX0_init_143 rfl ?_
  refine G_bipush F (v := (48 : Int32)) dX0_init_144 (by decide) ?_
  obtain ⟨m60, e_m60, h⟩ := bnd h
  obtain ⟨D61, C61, h, hD61, hC61⟩ := andA_of h; try dsimp only at hD61 hC61
  refine G_newac F (t := 2) (N := 48) q325 rfl (by decide) (by decide) (by decide) (by decide) (by omega) (by omega) dX0_init_146 e_m60 ?_
  obtain ⟨m62, e_m62, h⟩ := bnd h
  refine G_putVF F okX0 (f := 19) (by decide) q357 rfl rfl rfl dX0_init_148 (vfit_arr _ _) e_m62 ?_
  refine G_aload_n F dX0_init_151 rfl ?_
  refine G_bipush F (v := (48 : Int32)) dX0_init_152 (by decide) ?_
  refine G_bipush F (v := (8 : Int32)) dX0_init_154 (by decide) ?_
  obtain ⟨m63, e_m63, h⟩ := bnd h
  obtain ⟨D64, C64, h, hD64, hC64⟩ := andA_of h; try dsimp only at hD64 hC64
  refine G_newgc F (N := 48) (K := 8) q288 q289 q180 (by decide) (by decide) (by decide) (by decide) (by decide) (by omega) (by omega) dX0_init_156 e_m63 ?_
  obtain ⟨m65, e_m65, h⟩ := bnd h
  refine G_putVF F okX0 (f := 20) (by decide) q358 rfl rfl rfl dX0_init_160 (vfit_arr _ _) e_m65 ?_
  refine G_aload_n F dX0_init_163 rfl ?_
  refine G_bipush F (v := (31 : Int32)) dX0_init_164 (by decide) ?_
  obtain ⟨m66, e_m66, h⟩ := bnd h
  obtain ⟨D67, C67, h, hD67, hC67⟩ := andA_of h; try dsimp only at hD67 hC67
  refine G_newac F (t := 0) (N := 31) q180 rfl (by decide) (by decide) (by decide) (by decide) (by omega) (by omega) dX0_init_166 e_m66 ?_
  obtain ⟨m68, e_m68, h⟩ := bnd h
  refine G_putVF F okX0 (f := 21) (by decide) q359 rfl rfl rfl dX0_init_168 (vfit_arr _ _) e_m68 ?_
  refine G_iconst F (v := (0 : Int32)) dX0_init_171 (by decide) ?_
  refine G_istore_n F (L2 := [some (.inr (some a0)), some (.inl (0 : Int32))]) dX0_init_172 (by decide) rfl ?_
  obtain ⟨⟨r69, e69, f69⟩, hr69, h⟩ := bnd h
  obtain ⟨D80, C80, h, hD80, hC80⟩ := andA_of h; try dsimp only at hD80 hC80
  have KE69 : ∀ (m79 : Hp), m79 = r69 → G X cx 2 (Qm X cx none m_ nx dc ds) (0 + 1 + 1 + 1 + 1 + 1 + d17 + 1 + d24 + 1 + d31 + 1 + 1 + d41 + 1 + 1 + 1 + 1 + 1 + 1 + 49 + 1 + e69) (0 + 48 + 384 + 384 + 10 + 9 + c18 + 9 + c25 + 9 + c32 + 260 + 4 + c42 + 10 + 10 + 48 + 48 + 48 + 48 + 432 + 31 + f69) m79 (nx + 1 + 1 + 1 + 1 + 1 + d17 + 1 + d24 + 1 + d31 + 1 + 1 + d41 + 1 + 1 + 1 + 1 + 1 + 1 + 49 + 1 + e69) [some (.inr (some a0)), none] [] 198 := by
    intro m79 hq
    subst hq
    try dsimp only at h
    refine G_aload_n F dX0_init_198 rfl ?_
    obtain ⟨v81, e_v81, h⟩ := bnd h
    refine G_getR F okX0 (f := 7) (by decide) q342 rfl dX0_init_199 e_v81 ?_
    refine G_iconst F (v := (1 : Int32)) dX0_init_202 (by decide) ?_
    obtain ⟨m82, e_m82, h⟩ := bnd h
    refine G_putVN F okX3 (f := 4) (by decide) q232 rfl rfl dX0_init_203 (vfit_int _) e_m82 ?_
    cases h
    exact G_vret F rfl (by omega) (by omega) (by omega) dX0_init_206
  have KB69 : ∀ s nx69 k69 n69 o69 d69 c69, fX0_init_L173 (some a0) s nx69 = some (o69, d69, c69) → k69 + d69 ≤ dc → n69 + c69 ≤ ds → (∀ s', o69 = Sum.inl s' → (fun (s : (Int32 × Hp)) nx69 k69 n69 => match s with | (s1_69, m69) => G X cx 2 (Qm X cx none m_ nx dc ds) (k69) (n69) m69 (nx69) [some (.inr (some a0)), some (.inl s1_69)] [] 173) s' (nx69 + d69) (k69 + d69) (n69 + c69)) → (∀ q, o69 = Sum.inr q → (fun q a_ b_ c_ => q = r69 ∧ a_ = nx + 1 + 1 + 1 + 1 + 1 + d17 + 1 + d24 + 1 + d31 + 1 + 1 + d41 + 1 + 1 + 1 + 1 + 1 + 1 + 49 + 1 + e69 ∧ b_ = 0 + 1 + 1 + 1 + 1 + 1 + d17 + 1 + d24 + 1 + d31 + 1 + 1 + d41 + 1 + 1 + 1 + 1 + 1 + 1 + 49 + 1 + e69 ∧ c_ = 0 + 48 + 384 + 384 + 10 + 9 + c18 + 9 + c25 + 9 + c32 + 260 + 4 + c42 + 10 + 10 + 48 + 48 + 48 + 48 + 432 + 31 + f69) q (nx69 + d69) (k69 + d69) (n69 + c69)) → (fun (s : (Int32 × Hp)) nx69 k69 n69 => match s with | (s1_69, m69) => G X cx 2 (Qm X cx none m_ nx dc ds) (k69) (n69) m69 (nx69) [some (.inr (some a0)), some (.inl s1_69)] [] 173) s nx69 k69 n69 := by
    intro s nx69 k69 n69 o69 d69 c69 h hk69 hn69 hP69 hE69
    obtain ⟨s1_69, m69⟩ := s
    try dsimp only at hP69 hE69 ⊢
    refine G_iload_n F dX0_init_173 rfl ?_
    refine G_bipush F (v := (48 : Int32)) dX0_init_174 (by decide) ?_
    refine G_icmp_ge F (tgt := 198) dX0_init_176 (by decide) (fun c70 => ?_) (fun c70 => ?_)
    · have h := itt c70 h
      cases h
      obtain ⟨q0_, q1_, q2_, q3_⟩ := hE69 _ rfl
      exact G_cnt (G_sub F (L2 := [some (.inr (some a0)), none]) ⟨rfl, trivial⟩ (KE69 _ q0_)) (by omega) (by omega) (by omega)
    · have h := itf c70 h
      refine G_aload_n F dX0_init_179 rfl ?_
      obtain ⟨v71, e_v71, h⟩ := bnd h
      refine G_getR F okX0 (f := 0) (by decide) q328 rfl dX0_init_180 e_v71 ?_
      refine G_iload_n F dX0_init_183 rfl ?_
      obtain ⟨m72, e_m72, h⟩ := bnd h
      obtain ⟨D73, C73, h, hD73, hC73⟩ := andA_of h; try dsimp only at hD73 hC73
      refine G_newc F okX6 (fs := dfX6) q136 q290 q108 (by decide) (by omega) (by omega) dX0_init_184 e_m72 ?_
      refine G_dup F dX0_init_187 ?_
      obtain ⟨⟨m74, d75, c76⟩, e_m74, h⟩ := bnd h
      obtain ⟨D77, C77, h, hD77, hC77⟩ := andA_of h; try dsimp only at hD77 hC77
      refine G_callIN0 F (As := []) (st := [.inr (some (nx69)), .inl s1_69, .inr v71]) (metX6_init X e_m74) q293 q108 q291 q292 rfl hdfX6_init ⟨by omega, by decide⟩ rfl (Nat.le_of_ble_eq_true rfl) ⟨by omega, by omega⟩ dX0_init_188 ?_
      obtain ⟨m78, e_m78, h⟩ := bnd h
      refine G_aast F (t := 5) (by decide) rfl dX0_init_191 e_m78 ?_
      refine G_iinc F (v := (s1_69 + (1 : Int32))) (L2 := [some (.inr (some a0)), some (.inl (s1_69 + (1 : Int32)))]) dX0_init_192 (by decide) rfl rfl rfl ?_
      refine G_goto F (tgt := 173) dX0_init_195 (by decide) ?_
      cases h
      exact G_cnt (G_sub F (L2 := [some (.inr (some a0)), some (.inl (s1_69 + (1 : Int32)))]) ⟨rfl, ⟨rfl, trivial⟩⟩ (hP69 _ rfl)) (by omega) (by omega) (by omega)
  have hI := iterA_ok dc ds (fun (s : (Int32 × Hp)) nx69 k69 n69 => match s with | (s1_69, m69) => G X cx 2 (Qm X cx none m_ nx dc ds) (k69) (n69) m69 (nx69) [some (.inr (some a0)), some (.inl s1_69)] [] 173) (fun q a_ b_ c_ => q = r69 ∧ a_ = nx + 1 + 1 + 1 + 1 + 1 + d17 + 1 + d24 + 1 + d31 + 1 + 1 + d41 + 1 + 1 + 1 + 1 + 1 + 1 + 49 + 1 + e69 ∧ b_ = 0 + 1 + 1 + 1 + 1 + 1 + d17 + 1 + d24 + 1 + d31 + 1 + 1 + d41 + 1 + 1 + 1 + 1 + 1 + 1 + 49 + 1 + e69 ∧ c_ = 0 + 48 + 384 + 384 + 10 + 9 + c18 + 9 + c25 + 9 + c32 + 260 + 4 + c42 + 10 + 10 + 48 + 48 + 48 + 48 + 432 + 31 + f69) KB69 _ _ _ _ _ _ _ _ hr69 (by omega) (by omega) ⟨rfl, rfl, rfl, rfl⟩
  exact G_sub F (L2 := [some (.inr (some a0)), some (.inl (0 : Int32))]) ⟨rfl, ⟨rfl, trivial⟩⟩ hI

theorem metX0_isTold (X : Gx) {m : Hp} {nx : Nat} {a0 : Option Nat} {a1 : Int32} {rv : Int32} (h : fX0_isTold m a0 a1 = some rv) : Con X (2) yX0_isTold cX0_isTold 2 ((Option.some FieldType.boolean)) [.inr a0, .inl a1] m nx (some (.inl rv)) m 0 0 := by
  refine Con.of (own := RX0) (nm := "isTold") (L := [some (.inr a0), some (.inl a1)]) (by decide +kernel) rfl rfl (Nat.le_of_ble_eq_true rfl) (ent_of 0 rfl) ?_
  intro cx F
  refine G_iload_n F dX0_isTold_0 rfl ?_
  refine G_bipush F (v := (12 : Int32)) dX0_isTold_1 (by decide) ?_
  obtain ⟨v1, e_v1, h⟩ := bnd h
  refine G_callSv F (As := [.inl a1, .inl (12 : Int32)]) (st := []) (metX0_in X e_v1) (lw_S q409 q410 q102 q411) hdfX0_in ⟨by omega, by decide⟩ rfl (Nat.le_of_ble_eq_true rfl) ⟨by omega, by omega⟩ dX0_isTold_3 ?_
  refine G_if_eq F (tgt := 28) dX0_isTold_6 (by decide) (fun c2 => ?_) (fun c2 => ?_)
  · have h := itt c2 h
    refine G_iconst F (v := (0 : Int32)) dX0_isTold_28 (by decide) ?_
    cases h
    exact G_zret F rfl (Or.inl rfl) (Nat.le_refl _) (Nat.le_refl _) rfl dX0_isTold_29
  · have h := itf c2 h
    refine G_aload_n F dX0_isTold_9 rfl ?_
    obtain ⟨v3, e_v3, h⟩ := bnd h
    refine G_getR F okX0 (f := 7) (by decide) q342 rfl dX0_isTold_10 e_v3 ?_
    obtain ⟨v4, e_v4, h⟩ := bnd h
    refine G_getRN F okX3 (f := 0) (by decide) q226 rfl dX0_isTold_13 e_v4 ?_
    refine G_iload_n F dX0_isTold_16 rfl ?_
    obtain ⟨v5, e_v5, h⟩ := bnd h
    refine G_aald F (t := 6) (by decide) dX0_isTold_17 e_v5 ?_
    obtain ⟨v6, e_v6, h⟩ := bnd h
    refine G_getIN F okX4 (f := 5) (by decide) q211 rfl dX0_isTold_18 e_v6 ?_
    refine G_if_eq F (tgt := 28) dX0_isTold_21 (by decide) (fun c7 => ?_) (fun c7 => ?_)
    · have h := itt c7 h
      refine G_iconst F (v := (0 : Int32)) dX0_isTold_28 (by decide) ?_
      cases h
      exact G_zret F rfl (Or.inl rfl) (Nat.le_refl _) (Nat.le_refl _) rfl dX0_isTold_29
    · have h := itf c7 h
      refine G_iconst F (v := (1 : Int32)) dX0_isTold_24 (by decide) ?_
      refine G_goto F (tgt := 29) dX0_isTold_25 (by decide) ?_
      cases h
      exact G_zret F rfl (Or.inr rfl) (Nat.le_refl _) (Nat.le_refl _) rfl dX0_isTold_29

theorem metX0_person (X : Gx) {m : Hp} {nx : Nat} {a0 : Option Nat} {a1 : Int32} {a2 : Int32} {a3 : Int32} {a4 : Int32} {rv : Int32} {m_ : Hp} (h : fX0_person m a0 a1 a2 a3 a4 = some (rv, m_)) : Con X (4) yX0_person cX0_person 6 ((Option.some FieldType.boolean)) [.inr a0, .inl a1, .inl a2, .inl a3, .inl a4] m nx (some (.inl rv)) m_ 0 0 := by
  refine Con.of (own := RX0) (nm := "person") (L := [some (.inr a0), some (.inl a1), some (.inl a2), some (.inl a3), some (.inl a4), none]) (by decide +kernel) rfl rfl (Nat.le_of_ble_eq_true rfl) (ent_of 1 rfl) ?_
  intro cx F
  refine G_iload_n F dX0_person_0 rfl ?_
  refine G_bipush F (v := (12 : Int32)) dX0_person_1 (by decide) ?_
  obtain ⟨v1, e_v1, h⟩ := bnd h
  refine G_callSv F (As := [.inl a1, .inl (12 : Int32)]) (st := []) (metX0_in X e_v1) (lw_S q409 q410 q102 q411) hdfX0_in ⟨by omega, by decide⟩ rfl (Nat.le_of_ble_eq_true rfl) ⟨by omega, by omega⟩ dX0_person_3 ?_
  refine G_if_eq F (tgt := 28) dX0_person_6 (by decide) (fun c2 => ?_) (fun c2 => ?_)
  · have h := itt c2 h
    refine G_iconst F (v := (0 : Int32)) dX0_person_28 (by decide) ?_
    cases h
    exact G_zret F rfl (Or.inl rfl) (Nat.le_refl _) (Nat.le_refl _) rfl dX0_person_29
  · have h := itf c2 h
    refine G_iload_n F dX0_person_9 rfl ?_
    refine G_iload_n F dX0_person_10 rfl ?_
    obtain ⟨v3, e_v3, h⟩ := bnd h
    refine G_callSv F (As := [.inl a2, .inl a3]) (st := []) (metX0_areTwo X e_v3) (lw_S q412 q413 q102 q414) hdfX0_areTwo ⟨by omega, by decide⟩ rfl (Nat.le_of_ble_eq_true rfl) ⟨by omega, by omega⟩ dX0_person_11 ?_
    refine G_if_eq F (tgt := 28) dX0_person_14 (by decide) (fun c4 => ?_) (fun c4 => ?_)
    · have h := itt c4 h
      refine G_iconst F (v := (0 : Int32)) dX0_person_28 (by decide) ?_
      cases h
      exact G_zret F rfl (Or.inl rfl) (Nat.le_refl _) (Nat.le_refl _) rfl dX0_person_29
    · have h := itf c4 h
      refine G_iload F dX0_person_17 rfl ?_
      refine G_sipush F (v := (1440 : Int32)) dX0_person_19 (by decide) ?_
      obtain ⟨v5, e_v5, h⟩ := bnd h
      refine G_callSv F (As := [.inl a4, .inl (1440 : Int32)]) (st := []) (metX0_in X e_v5) (lw_S q409 q410 q102 q411) hdfX0_in ⟨by omega, by decide⟩ rfl (Nat.le_of_ble_eq_true rfl) ⟨by omega, by omega⟩ dX0_person_22 ?_
      refine G_if_ne F (tgt := 30) dX0_person_25 (by decide) (fun c6 => ?_) (fun c6 => ?_)
      · have h := itf c6 h
        refine G_aload_n F dX0_person_30 rfl ?_
        obtain ⟨v7, e_v7, h⟩ := bnd h
        refine G_getR F okX0 (f := 7) (by decide) q342 rfl dX0_person_31 e_v7 ?_
        obtain ⟨v8, e_v8, h⟩ := bnd h
        refine G_getRN F okX3 (f := 0) (by decide) q226 rfl dX0_person_34 e_v8 ?_
        refine G_iload_n F dX0_person_37 rfl ?_
        obtain ⟨v9, e_v9, h⟩ := bnd h
        refine G_aald F (t := 6) (by decide) dX0_person_38 e_v9 ?_
        refine G_astore F (L2 := [some (.inr a0), some (.inl a1), some (.inl a2), some (.inl a3), some (.inl a4), some (.inr v9)]) dX0_person_39 (by decide) rfl ?_
        refine G_aload F dX0_person_41 rfl ?_
        refine G_iconst F (v := (1 : Int32)) dX0_person_43 (by decide) ?_
        obtain ⟨m10, e_m10, h⟩ := bnd h
        refine G_putVN F okX4 (f := 5) (by decide) q211 rfl rfl dX0_person_44 (hp_pZ_of e_m10).1 (hp_pZ_of e_m10).2 ?_
        refine G_aload F dX0_person_47 rfl ?_
        refine G_iload_n F dX0_person_49 rfl ?_
        obtain ⟨m11, e_m11, h⟩ := bnd h
        refine G_putVN F okX4 (f := 0) (by decide) q196 rfl rfl dX0_person_50 (vfit_int _) e_m11 ?_
        refine G_aload F dX0_person_53 rfl ?_
        refine G_iload_n F dX0_person_55 rfl ?_
        obtain ⟨m12, e_m12, h⟩ := bnd h
        refine G_putVN F okX4 (f := 1) (by decide) q199 rfl rfl dX0_person_56 (vfit_int _) e_m12 ?_
        refine G_aload F dX0_person_59 rfl ?_
        refine G_iload F dX0_person_61 rfl ?_
        obtain ⟨m13, e_m13, h⟩ := bnd h
        refine G_putVN F okX4 (f := 2) (by decide) q202 rfl rfl dX0_person_63 (vfit_int _) e_m13 ?_
        refine G_aload F dX0_person_66 rfl ?_
        refine G_iconst F (v := (0 : Int32)) dX0_person_68 (by decide) ?_
        obtain ⟨m14, e_m14, h⟩ := bnd h
        refine G_putVN F okX4 (f := 3) (by decide) q205 rfl rfl dX0_person_69 (vfit_int _) e_m14 ?_
        refine G_aload F dX0_person_72 rfl ?_
        refine G_iconst F (v := (0 : Int32)) dX0_person_74 (by decide) ?_
        obtain ⟨m15, e_m15, h⟩ := bnd h
        refine G_putVN F okX4 (f := 4) (by decide) q208 rfl rfl dX0_person_75 (vfit_int _) e_m15 ?_
        refine G_iconst F (v := (1 : Int32)) dX0_person_78 (by decide) ?_
        cases h
        exact G_zret F rfl (Or.inr rfl) (Nat.le_refl _) (Nat.le_refl _) rfl dX0_person_79
      · have h := itt c6 h
        refine G_iconst F (v := (0 : Int32)) dX0_person_28 (by decide) ?_
        cases h
        exact G_zret F rfl (Or.inl rfl) (Nat.le_refl _) (Nat.le_refl _) rfl dX0_person_29

theorem metX0_changing (X : Gx) {m : Hp} {nx : Nat} {a0 : Option Nat} {a1 : Int32} {rv : Int32} {m_ : Hp} (h : fX0_changing m a0 a1 = some (rv, m_)) : Con X (2) yX0_changing cX0_changing 2 ((Option.some FieldType.boolean)) [.inr a0, .inl a1] m nx (some (.inl rv)) m_ 0 0 := by
  refine Con.of (own := RX0) (nm := "changing") (L := [some (.inr a0), some (.inl a1)]) (by decide +kernel) rfl rfl (Nat.le_of_ble_eq_true rfl) (ent_of 0 rfl) ?_
  intro cx F
  refine G_iload_n F dX0_changing_0 rfl ?_
  refine G_iconst F (v := (0 : Int32)) dX0_changing_1 (by decide) ?_
  refine G_bipush F (v := (60 : Int32)) dX0_changing_2 (by decide) ?_
  obtain ⟨v1, e_v1, h⟩ := bnd h
  refine G_callSv F (As := [.inl a1, .inl (0 : Int32), .inl (60 : Int32)]) (st := []) (metX0_within X e_v1) (lw_S q422 q423 q102 q424) hdfX0_within ⟨by omega, by decide⟩ rfl (Nat.le_of_ble_eq_true rfl) ⟨by omega, by omega⟩ dX0_changing_4 ?_
  refine G_if_ne F (tgt := 12) dX0_changing_7 (by decide) (fun c2 => ?_) (fun c2 => ?_)
  · have h := itf c2 h
    refine G_aload_n F dX0_changing_12 rfl ?_
    refine G_iload_n F dX0_changing_13 rfl ?_
    obtain ⟨m3, e_m3, h⟩ := bnd h
    refine G_putV F okX0 (f := 5) (by decide) q339 rfl rfl dX0_changing_14 (vfit_int _) e_m3 ?_
    refine G_iconst F (v := (1 : Int32)) dX0_changing_17 (by decide) ?_
    cases h
    exact G_zret F rfl (Or.inr rfl) (Nat.le_refl _) (Nat.le_refl _) rfl dX0_changing_18
  · have h := itt c2 h
    refine G_iconst F (v := (0 : Int32)) dX0_changing_10 (by decide) ?_
    cases h
    exact G_zret F rfl (Or.inl rfl) (Nat.le_refl _) (Nat.le_refl _) rfl dX0_changing_11

theorem metX0_push (X : Gx) {m : Hp} {nx : Nat} {a0 : Option Nat} {a1 : Int32} {m_ : Hp} (h : fX0_push m a0 a1 = some m_) : Con X (1) yX0_push cX0_push 3 ((none : Option FieldType)) [.inr a0, .inl a1] m nx none m_ 0 0 := by
  refine Con.of (own := RX0) (nm := "push") (L := [some (.inr a0), some (.inl a1), none]) (by decide +kernel) rfl rfl (Nat.le_of_ble_eq_true rfl) (ent_of 1 rfl) ?_
  intro cx F
  refine G_bipush F (v := (24 : Int32)) dX0_push_0 (by decide) ?_
  refine G_istore_n F (L2 := [some (.inr a0), some (.inl a1), some (.inl (24 : Int32))]) dX0_push_2 (by decide) rfl ?_
  obtain ⟨r1, hr1, h⟩ := bnd h
  have KE1 : ∀ (m8 : Hp), m8 = r1 → G X cx 3 (Qm X cx none m_ nx 0 0) (0) (0) m8 (nx) [none, none, none] [] 36 := by
    intro m8 hq
    subst hq
    try dsimp only at h
    cases h
    exact G_vret F rfl (Nat.le_refl _) (Nat.le_refl _) rfl dX0_push_36
  have KB1 : ∀ s o1, fX0_push_L3 a0 a1 s = some o1 → (∀ s', o1 = Sum.inl s' → (fun (s : (Int32 × Hp)) => match s with | (s2_1, m1) => G X cx 3 (Qm X cx none m_ nx 0 0) (0) (0) m1 (nx) [some (.inr a0), some (.inl a1), some (.inl s2_1)] [] 3) s') → (∀ q, o1 = Sum.inr q → q = r1) → (fun (s : (Int32 × Hp)) => match s with | (s2_1, m1) => G X cx 3 (Qm X cx none m_ nx 0 0) (0) (0) m1 (nx) [some (.inr a0), some (.inl a1), some (.inl s2_1)] [] 3) s := by
    intro s o1 h hP1 hE1
    obtain ⟨s2_1, m1⟩ := s
    try dsimp only at hP1 hE1 ⊢
    refine G_iload_n F dX0_push_3 rfl ?_
    refine G_if_lt F (tgt := 36) dX0_push_4 (by decide) (fun c2 => ?_) (fun c2 => ?_)
    · have h := itt c2 h
      cases h
      exact G_sub F (L2 := [none, none, none]) trivial (KE1 _ (hE1 _ rfl))
    · have h := itf c2 h
      refine G_aload_n F dX0_push_7 rfl ?_
      obtain ⟨v3, e_v3, h⟩ := bnd h
      refine G_getR F okX0 (f := 10) (by decide) q347 rfl dX0_push_8 e_v3 ?_
      refine G_aload_n F dX0_push_11 rfl ?_
      obtain ⟨v4, e_v4, h⟩ := bnd h
      refine G_getI F okX0 (f := 12) (by decide) q350 rfl dX0_push_12 e_v4 ?_
      refine G_iload_n F dX0_push_15 rfl ?_
      refine G_iload_n F dX0_push_16 rfl ?_
      refine G_ishr F dX0_push_17 ?_
      refine G_i2b F dX0_push_18 ?_
      obtain ⟨m5, e_m5, h⟩ := bnd h
      refine G_bast F dX0_push_19 e_m5 ?_
      refine G_aload_n F dX0_push_20 rfl ?_
      refine G_dup F dX0_push_21 ?_
      obtain ⟨v6, e_v6, h⟩ := bnd h
      refine G_getI F okX0 (f := 12) (by decide) q350 rfl dX0_push_22 e_v6 ?_
      refine G_iconst F (v := (1 : Int32)) dX0_push_25 (by decide) ?_
      refine G_iadd F dX0_push_26 ?_
      obtain ⟨m7, e_m7, h⟩ := bnd h
      refine G_putV F okX0 (f := 12) (by decide) q350 rfl rfl dX0_push_27 (vfit_int _) e_m7 ?_
      refine G_iinc F (v := (s2_1 + (-8 : Int32))) (L2 := [some (.inr a0), some (.inl a1), some (.inl (s2_1 + (-8 : Int32)))]) dX0_push_30 (by decide) rfl rfl rfl ?_
      refine G_goto F (tgt := 3) dX0_push_33 (by decide) ?_
      cases h
      exact G_sub F (L2 := [some (.inr a0), some (.inl a1), some (.inl (s2_1 + (-8 : Int32)))]) ⟨rfl, ⟨rfl, ⟨rfl, trivial⟩⟩⟩ (hP1 _ rfl)
  have hI := iter_ok (fun (s : (Int32 × Hp)) => match s with | (s2_1, m1) => G X cx 3 (Qm X cx none m_ nx 0 0) (0) (0) m1 (nx) [some (.inr a0), some (.inl a1), some (.inl s2_1)] [] 3) (fun q => q = r1) KB1 _ _ _ hr1 rfl
  exact G_sub F (L2 := [some (.inr a0), some (.inl a1), some (.inl (24 : Int32))]) ⟨rfl, ⟨rfl, ⟨rfl, trivial⟩⟩⟩ hI

theorem metX0_feed (X : Gx) {m : Hp} {nx : Nat} {a0 : Option Nat} {a1 : Int32} {a2 : Int32} {a3 : Int32} {a4 : Int32} {a5 : Int32} {rv : Int32} {m_ : Hp} (h : fX0_feed m a0 a1 a2 a3 a4 a5 = some (rv, m_)) : Con X (2) yX0_feed cX0_feed 6 ((Option.some FieldType.int)) [.inr a0, .inl a1, .inl a2, .inl a3, .inl a4, .inl a5] m nx (some (.inl rv)) m_ 0 0 := by
  refine Con.of (own := RX0) (nm := "feed") (L := [some (.inr a0), some (.inl a1), some (.inl a2), some (.inl a3), some (.inl a4), some (.inl a5)]) (by decide +kernel) rfl rfl (Nat.le_of_ble_eq_true rfl) (ent_of 0 rfl) ?_
  intro cx F
  refine G_aload_n F dX0_feed_0 rfl ?_
  obtain ⟨v1, e_v1, h⟩ := bnd h
  refine G_getI F okX0 (f := 12) (by decide) q350 rfl dX0_feed_1 e_v1 ?_
  refine G_bipush F (v := (20 : Int32)) dX0_feed_4 (by decide) ?_
  refine G_iadd F dX0_feed_6 ?_
  refine G_sipush F (v := (260 : Int32)) dX0_feed_7 (by decide) ?_
  refine G_icmp_le F (tgt := 15) dX0_feed_10 (by decide) (fun c2 => ?_) (fun c2 => ?_)
  · have h := itt c2 h
    refine G_aload_n F dX0_feed_15 rfl ?_
    refine G_iload_n F dX0_feed_16 rfl ?_
    obtain ⟨m3, e_m3, h⟩ := bnd h
    obtain ⟨hc_m3, e_m3⟩ := hp_on_of e_m3
    refine G_callV0 F (As := [.inl a1]) (st := []) (metX0_push X e_m3) hc_m3 rfl rfl (lw_V q429 q431 qs0 q102 q432) hdfX0_push ⟨by omega, by decide⟩ rfl (Nat.le_of_ble_eq_true rfl) ⟨by omega, by omega⟩ dX0_feed_17 ?_
    refine G_aload_n F dX0_feed_20 rfl ?_
    refine G_iload_n F dX0_feed_21 rfl ?_
    obtain ⟨m4, e_m4, h⟩ := bnd h
    obtain ⟨hc_m4, e_m4⟩ := hp_on_of e_m4
    refine G_callV0 F (As := [.inl a2]) (st := []) (metX0_push X e_m4) hc_m4 rfl rfl (lw_V q429 q431 qs0 q102 q432) hdfX0_push ⟨by omega, by decide⟩ rfl (Nat.le_of_ble_eq_true rfl) ⟨by omega, by omega⟩ dX0_feed_22 ?_
    refine G_aload_n F dX0_feed_25 rfl ?_
    refine G_iload_n F dX0_feed_26 rfl ?_
    obtain ⟨m5, e_m5, h⟩ := bnd h
    obtain ⟨hc_m5, e_m5⟩ := hp_on_of e_m5
    refine G_callV0 F (As := [.inl a3]) (st := []) (metX0_push X e_m5) hc_m5 rfl rfl (lw_V q429 q431 qs0 q102 q432) hdfX0_push ⟨by omega, by decide⟩ rfl (Nat.le_of_ble_eq_true rfl) ⟨by omega, by omega⟩ dX0_feed_27 ?_
    refine G_aload_n F dX0_feed_30 rfl ?_
    refine G_iload F dX0_feed_31 rfl ?_
    obtain ⟨m6, e_m6, h⟩ := bnd h
    obtain ⟨hc_m6, e_m6⟩ := hp_on_of e_m6
    refine G_callV0 F (As := [.inl a4]) (st := []) (metX0_push X e_m6) hc_m6 rfl rfl (lw_V q429 q431 qs0 q102 q432) hdfX0_push ⟨by omega, by decide⟩ rfl (Nat.le_of_ble_eq_true rfl) ⟨by omega, by omega⟩ dX0_feed_33 ?_
    refine G_aload_n F dX0_feed_36 rfl ?_
    refine G_iload F dX0_feed_37 rfl ?_
    obtain ⟨m7, e_m7, h⟩ := bnd h
    obtain ⟨hc_m7, e_m7⟩ := hp_on_of e_m7
    refine G_callV0 F (As := [.inl a5]) (st := []) (metX0_push X e_m7) hc_m7 rfl rfl (lw_V q429 q431 qs0 q102 q432) hdfX0_push ⟨by omega, by decide⟩ rfl (Nat.le_of_ble_eq_true rfl) ⟨by omega, by omega⟩ dX0_feed_39 ?_
    refine G_aload_n F dX0_feed_42 rfl ?_
    obtain ⟨v8, e_v8, h⟩ := bnd h
    refine G_getI F okX0 (f := 12) (by decide) q350 rfl dX0_feed_43 e_v8 ?_
    cases h
    exact G_iret F rfl (Nat.le_refl _) (Nat.le_refl _) rfl dX0_feed_46
  · have h := itf c2 h
    refine G_iconst F (v := (-1 : Int32)) dX0_feed_13 (by decide) ?_
    cases h
    exact G_iret F rfl (Nat.le_refl _) (Nat.le_refl _) rfl dX0_feed_14

theorem metX8_init (X : Gx) {m : Hp} {nx : Nat} {a0 : Nat} {a1 : Option Nat} {a2 : Int32} {m_ : Hp} {dc ds : Nat} (h : fX8_init m nx a0 a1 a2 = some (m_, dc, ds)) : Con X (3) yX8_init cX8_init 3 ((none : Option FieldType)) [.inr (some a0), .inr a1, .inl a2] m nx none m_ dc ds := by
  refine Con.of (own := RX8) (nm := "<init>") (L := [some (.inr (some a0)), some (.inr a1), some (.inl a2)]) (by decide +kernel) rfl rfl (Nat.le_of_ble_eq_true rfl) (ent_of 0 rfl) ?_
  intro cx F
  refine G_aload_n F dX8_init_0 rfl ?_
  refine G_aload_n F dX8_init_1 rfl ?_
  obtain ⟨m1, e_m1, h⟩ := bnd h
  refine G_putVF F okX8 (f := 6) (by decide) q452 rfl rfl rfl dX8_init_2 (vfit_obj _ _) e_m1 ?_
  refine G_aload_n F dX8_init_5 rfl ?_
  refine G_objInit F q442 q134 q135 (by omega) (Nat.le_of_ble_eq_true rfl) dX8_init_6 ?_
  refine G_aload_n F dX8_init_9 rfl ?_
  obtain ⟨m2, e_m2, h⟩ := bnd h
  obtain ⟨D3, C3, h, hD3, hC3⟩ := andA_of h; try dsimp only at hD3 hC3
  refine G_newc F okX5 (fs := dfX5) q443 q260 q107 (by decide) (by omega) (by omega) dX8_init_10 e_m2 ?_
  refine G_dup F dX8_init_13 ?_
  obtain ⟨⟨m4, d5, c6⟩, e_m4, h⟩ := bnd h
  obtain ⟨D7, C7, h, hD7, hC7⟩ := andA_of h; try dsimp only at hD7 hC7
  refine G_callIN0 F (As := []) (st := [.inr (some (nx)), .inr (some a0)]) (metX5_init X e_m4) q263 q107 q444 q262 rfl hdfX5_init ⟨by omega, by decide⟩ rfl (Nat.le_of_ble_eq_true rfl) ⟨by omega, by omega⟩ dX8_init_14 ?_
  obtain ⟨m8, e_m8, h⟩ := bnd h
  refine G_putVF F okX8 (f := 1) (by decide) q446 rfl rfl rfl dX8_init_17 (vfit_obj _ _) e_m8 ?_
  refine G_aload_n F dX8_init_20 rfl ?_
  refine G_iload_n F dX8_init_21 rfl ?_
  obtain ⟨m9, e_m9, h⟩ := bnd h
  refine G_putVF F okX8 (f := 0) (by decide) q445 rfl rfl rfl dX8_init_22 (vfit_int _) e_m9 ?_
  cases h
  exact G_vret F rfl (by omega) (by omega) (by omega) dX8_init_25

theorem metX8_isGood (X : Gx) {m : Hp} {nx : Nat} {a0 : Option Nat} {rv : Int32} (h : fX8_isGood m a0 = some rv) : Con X (1) yX8_isGood cX8_isGood 1 ((Option.some FieldType.boolean)) [.inr a0] m nx (some (.inl rv)) m 0 0 := by
  refine Con.of (own := RX8) (nm := "isGood") (L := [some (.inr a0)]) (by decide +kernel) rfl rfl (Nat.le_of_ble_eq_true rfl) (ent_of 0 rfl) ?_
  intro cx F
  refine G_aload_n F dX8_isGood_0 rfl ?_
  obtain ⟨v1, e_v1, h⟩ := bnd h
  refine G_getI F okX8 (f := 4) (by decide) q450 rfl dX8_isGood_1 e_v1 ?_
  refine G_if_ne F (tgt := 11) dX8_isGood_4 (by decide) (fun c2 => ?_) (fun c2 => ?_)
  · have h := itf c2 h
    refine G_iconst F (v := (0 : Int32)) dX8_isGood_11 (by decide) ?_
    cases h
    exact G_zret F rfl (Or.inl rfl) (Nat.le_refl _) (Nat.le_refl _) rfl dX8_isGood_12
  · have h := itt c2 h
    refine G_iconst F (v := (1 : Int32)) dX8_isGood_7 (by decide) ?_
    refine G_goto F (tgt := 12) dX8_isGood_8 (by decide) ?_
    cases h
    exact G_zret F rfl (Or.inr rfl) (Nat.le_refl _) (Nat.le_refl _) rfl dX8_isGood_12

theorem metX8_here (X : Gx) {m : Hp} {nx : Nat} {a0 : Option Nat} {rv : Int32} (h : fX8_here m a0 = some rv) : Con X (1) yX8_here cX8_here 1 ((Option.some FieldType.int)) [.inr a0] m nx (some (.inl rv)) m 0 0 := by
  refine Con.of (own := RX8) (nm := "here") (L := [some (.inr a0)]) (by decide +kernel) rfl rfl (Nat.le_of_ble_eq_true rfl) (ent_of 0 rfl) ?_
  intro cx F
  refine G_aload_n F dX8_here_0 rfl ?_
  obtain ⟨v1, e_v1, h⟩ := bnd h
  refine G_getI F okX8 (f := 2) (by decide) q448 rfl dX8_here_1 e_v1 ?_
  refine G_aload_n F dX8_here_4 rfl ?_
  obtain ⟨v2, e_v2, h⟩ := bnd h
  refine G_getI F okX8 (f := 0) (by decide) q445 rfl dX8_here_5 e_v2 ?_
  refine G_icmp_ge F (tgt := 30) dX8_here_8 (by decide) (fun c3 => ?_) (fun c3 => ?_)
  · have h := itt c3 h
    refine G_iconst F (v := (0 : Int32)) dX8_here_30 (by decide) ?_
    cases h
    exact G_iret F rfl (Nat.le_refl _) (Nat.le_refl _) rfl dX8_here_31
  · have h := itf c3 h
    refine G_aload_n F dX8_here_11 rfl ?_
    obtain ⟨v4, e_v4, h⟩ := bnd h
    refine G_getR F okX8 (f := 6) (by decide) q452 rfl dX8_here_12 e_v4 ?_
    obtain ⟨v5, e_v5, h⟩ := bnd h
    refine G_getRN F okX0 (f := 10) (by decide) q345 rfl dX8_here_15 e_v5 ?_
    refine G_aload_n F dX8_here_18 rfl ?_
    obtain ⟨v6, e_v6, h⟩ := bnd h
    refine G_getI F okX8 (f := 2) (by decide) q448 rfl dX8_here_19 e_v6 ?_
    obtain ⟨v7, e_v7, h⟩ := bnd h
    refine G_bald F dX8_here_22 e_v7 ?_
    refine G_sipush F (v := (255 : Int32)) dX8_here_23 (by decide) ?_
    refine G_iand F dX8_here_26 ?_
    refine G_goto F (tgt := 31) dX8_here_27 (by decide) ?_
    cases h
    exact G_iret F rfl (Nat.le_refl _) (Nat.le_refl _) rfl dX8_here_31

theorem metX8_bad (X : Gx) {m : Hp} {nx : Nat} {a0 : Option Nat} {a1 : Int32} {a2 : Int32} {m_ : Hp} (h : fX8_bad m a0 a1 a2 = some m_) : Con X (1) yX8_bad cX8_bad 3 ((none : Option FieldType)) [.inr a0, .inl a1, .inl a2] m nx none m_ 0 0 := by
  refine Con.of (own := RX8) (nm := "bad") (L := [some (.inr a0), some (.inl a1), some (.inl a2)]) (by decide +kernel) rfl rfl (Nat.le_of_ble_eq_true rfl) (ent_of 0 rfl) ?_
  intro cx F
  refine G_aload_n F dX8_bad_0 rfl ?_
  obtain ⟨v1, e_v1, h⟩ := bnd h
  refine G_getI F okX8 (f := 4) (by decide) q450 rfl dX8_bad_1 e_v1 ?_
  refine G_if_le F (tgt := 8) dX8_bad_4 (by decide) (fun c2 => ?_) (fun c2 => ?_)
  · have h := itt c2 h
    refine G_aload_n F dX8_bad_8 rfl ?_
    refine G_iload_n F dX8_bad_9 rfl ?_
    obtain ⟨m3, e_m3, h⟩ := bnd h
    refine G_putV F okX8 (f := 4) (by decide) q450 rfl rfl dX8_bad_10 (vfit_int _) e_m3 ?_
    refine G_aload_n F dX8_bad_13 rfl ?_
    refine G_iload_n F dX8_bad_14 rfl ?_
    obtain ⟨m4, e_m4, h⟩ := bnd h
    refine G_putV F okX8 (f := 5) (by decide) q451 rfl rfl dX8_bad_15 (vfit_int _) e_m4 ?_
    cases h
    exact G_vret F rfl (Nat.le_refl _) (Nat.le_refl _) rfl dX8_bad_18
  · have h := itf c2 h
    cases h
    exact G_vret F rfl (Nat.le_refl _) (Nat.le_refl _) rfl dX8_bad_7

theorem metX8_opens (X : Gx) {m : Hp} {nx : Nat} {a0 : Option Nat} {m_ : Hp} (h : fX8_opens m a0 = some m_) : Con X (2) yX8_opens cX8_opens 1 ((none : Option FieldType)) [.inr a0] m nx none m_ 0 0 := by
  refine Con.of (own := RX8) (nm := "opens") (L := [some (.inr a0)]) (by decide +kernel) rfl rfl (Nat.le_of_ble_eq_true rfl) (ent_of 0 rfl) ?_
  intro cx F
  refine G_aload_n F dX8_opens_0 rfl ?_
  obtain ⟨v1, e_v1, h⟩ := bnd h
  refine G_getI F okX8 (f := 3) (by decide) q449 rfl dX8_opens_1 e_v1 ?_
  refine G_bipush F (v := (6 : Int32)) dX8_opens_4 (by decide) ?_
  obtain ⟨p3, hp3, h⟩ := bnd h
  have K3 : ∀ (m2 : Hp), m2 = p3 → G X cx 1 (Qm X cx none m_ nx 0 0) (0) (0) m2 (nx) [some (.inr a0)] [] 18 := by
    intro m2 hq
    subst hq
    try dsimp only at h
    refine G_aload_n F dX8_opens_18 rfl ?_
    refine G_dup F dX8_opens_19 ?_
    obtain ⟨v4, e_v4, h⟩ := bnd h
    refine G_getI F okX8 (f := 3) (by decide) q449 rfl dX8_opens_20 e_v4 ?_
    refine G_iconst F (v := (1 : Int32)) dX8_opens_23 (by decide) ?_
    refine G_iadd F dX8_opens_24 ?_
    obtain ⟨m5, e_m5, h⟩ := bnd h
    refine G_putV F okX8 (f := 3) (by decide) q449 rfl rfl dX8_opens_25 (vfit_int _) e_m5 ?_
    refine G_aload_n F dX8_opens_28 rfl ?_
    refine G_dup F dX8_opens_29 ?_
    obtain ⟨v6, e_v6, h⟩ := bnd h
    refine G_getI F okX8 (f := 2) (by decide) q448 rfl dX8_opens_30 e_v6 ?_
    refine G_iconst F (v := (1 : Int32)) dX8_opens_33 (by decide) ?_
    refine G_iadd F dX8_opens_34 ?_
    obtain ⟨m7, e_m7, h⟩ := bnd h
    refine G_putV F okX8 (f := 2) (by decide) q448 rfl rfl dX8_opens_35 (vfit_int _) e_m7 ?_
    cases h
    exact G_vret F rfl (Nat.le_refl _) (Nat.le_refl _) rfl dX8_opens_38
  have h := hp3
  clear hp3
  refine G_icmp_ne F (tgt := 18) dX8_opens_6 (by decide) (fun c8 => ?_) (fun c8 => ?_)
  · have h := itf c8 h
    have hq_ := Option.some.inj h
    exact G_sub F (L2 := [some (.inr a0)]) ⟨rfl, trivial⟩ (K3 _ hq_)
  · have h := itt c8 h
    refine G_aload_n F dX8_opens_9 rfl ?_
    refine G_iconst F (v := (5 : Int32)) dX8_opens_10 (by decide) ?_
    refine G_aload_n F dX8_opens_11 rfl ?_
    obtain ⟨v9, e_v9, h⟩ := bnd h
    refine G_getI F okX8 (f := 2) (by decide) q448 rfl dX8_opens_12 e_v9 ?_
    obtain ⟨m10, e_m10, h⟩ := bnd h
    obtain ⟨hc_m10, e_m10⟩ := hp_on_of e_m10
    refine G_callV0 F (As := [.inl (5 : Int32), .inl v9]) (st := []) (metX8_bad X e_m10) hc_m10 rfl rfl (lw_V q571 q573 qs4 q110 q574) hdfX8_bad ⟨by omega, by decide⟩ rfl (Nat.le_of_ble_eq_true rfl) ⟨by omega, by omega⟩ dX8_opens_15 ?_
    have hq_ := Option.some.inj h
    exact G_sub F (L2 := [some (.inr a0)]) ⟨rfl, trivial⟩ (K3 _ hq_)

theorem metX8_must (X : Gx) {m : Hp} {nx : Nat} {a0 : Option Nat} {a1 : Int32} {m_ : Hp} (h : fX8_must m a0 a1 = some m_) : Con X (2) yX8_must cX8_must 2 ((none : Option FieldType)) [.inr a0, .inl a1] m nx none m_ 0 0 := by
  refine Con.of (own := RX8) (nm := "must") (L := [some (.inr a0), some (.inl a1)]) (by decide +kernel) rfl rfl (Nat.le_of_ble_eq_true rfl) (ent_of 0 rfl) ?_
  intro cx F
  refine G_aload_n F dX8_must_0 rfl ?_
  obtain ⟨v1, e_v1, h⟩ := bnd h
  obtain ⟨hc_v1, e_v1⟩ := hp_on_of e_v1
  refine G_callVv F (As := []) (st := []) (metX8_here X e_v1) hc_v1 rfl rfl (lw_V q480 q482 qs3 q110 q483) hdfX8_here ⟨by omega, by decide⟩ rfl (Nat.le_of_ble_eq_true rfl) ⟨by omega, by omega⟩ dX8_must_1 ?_
  refine G_iload_n F dX8_must_4 rfl ?_
  refine G_icmp_eq F (tgt := 17) dX8_must_5 (by decide) (fun c2 => ?_) (fun c2 => ?_)
  · have h := itt c2 h
    refine G_aload_n F dX8_must_17 rfl ?_
    refine G_dup F dX8_must_18 ?_
    obtain ⟨v3, e_v3, h⟩ := bnd h
    refine G_getI F okX8 (f := 2) (by decide) q448 rfl dX8_must_19 e_v3 ?_
    refine G_iconst F (v := (1 : Int32)) dX8_must_22 (by decide) ?_
    refine G_iadd F dX8_must_23 ?_
    obtain ⟨m4, e_m4, h⟩ := bnd h
    refine G_putV F okX8 (f := 2) (by decide) q448 rfl rfl dX8_must_24 (vfit_int _) e_m4 ?_
    cases h
    exact G_vret F rfl (Nat.le_refl _) (Nat.le_refl _) rfl dX8_must_27
  · have h := itf c2 h
    refine G_aload_n F dX8_must_8 rfl ?_
    refine G_iconst F (v := (1 : Int32)) dX8_must_9 (by decide) ?_
    refine G_aload_n F dX8_must_10 rfl ?_
    obtain ⟨v5, e_v5, h⟩ := bnd h
    refine G_getI F okX8 (f := 2) (by decide) q448 rfl dX8_must_11 e_v5 ?_
    obtain ⟨m6, e_m6, h⟩ := bnd h
    obtain ⟨hc_m6, e_m6⟩ := hp_on_of e_m6
    refine G_callV0 F (As := [.inl (1 : Int32), .inl v5]) (st := []) (metX8_bad X e_m6) hc_m6 rfl rfl (lw_V q571 q573 qs4 q110 q574) hdfX8_bad ⟨by omega, by decide⟩ rfl (Nat.le_of_ble_eq_true rfl) ⟨by omega, by omega⟩ dX8_must_14 ?_
    refine G_aload_n F dX8_must_17 rfl ?_
    refine G_dup F dX8_must_18 ?_
    obtain ⟨v7, e_v7, h⟩ := bnd h
    refine G_getI F okX8 (f := 2) (by decide) q448 rfl dX8_must_19 e_v7 ?_
    refine G_iconst F (v := (1 : Int32)) dX8_must_22 (by decide) ?_
    refine G_iadd F dX8_must_23 ?_
    obtain ⟨m8, e_m8, h⟩ := bnd h
    refine G_putV F okX8 (f := 2) (by decide) q448 rfl rfl dX8_must_24 (vfit_int _) e_m8 ?_
    cases h
    exact G_vret F rfl (Nat.le_refl _) (Nat.le_refl _) rfl dX8_must_27

theorem metX8_seesDigit (X : Gx) {m : Hp} {nx : Nat} {a0 : Option Nat} {rv : Int32} (h : fX8_seesDigit m a0 = some rv) : Con X (2) yX8_seesDigit cX8_seesDigit 1 ((Option.some FieldType.boolean)) [.inr a0] m nx (some (.inl rv)) m 0 0 := by
  refine Con.of (own := RX8) (nm := "seesDigit") (L := [some (.inr a0)]) (by decide +kernel) rfl rfl (Nat.le_of_ble_eq_true rfl) (ent_of 0 rfl) ?_
  intro cx F
  refine G_aload_n F dX8_seesDigit_0 rfl ?_
  obtain ⟨v1, e_v1, h⟩ := bnd h
  obtain ⟨hc_v1, e_v1⟩ := hp_on_of e_v1
  refine G_callVv F (As := []) (st := []) (metX8_here X e_v1) hc_v1 rfl rfl (lw_V q480 q482 qs3 q110 q483) hdfX8_here ⟨by omega, by decide⟩ rfl (Nat.le_of_ble_eq_true rfl) ⟨by omega, by omega⟩ dX8_seesDigit_1 ?_
  refine G_bipush F (v := (48 : Int32)) dX8_seesDigit_4 (by decide) ?_
  refine G_icmp_lt F (tgt := 22) dX8_seesDigit_6 (by decide) (fun c2 => ?_) (fun c2 => ?_)
  · have h := itt c2 h
    refine G_iconst F (v := (0 : Int32)) dX8_seesDigit_22 (by decide) ?_
    cases h
    exact G_zret F rfl (Or.inl rfl) (Nat.le_refl _) (Nat.le_refl _) rfl dX8_seesDigit_23
  · have h := itf c2 h
    refine G_aload_n F dX8_seesDigit_9 rfl ?_
    obtain ⟨v3, e_v3, h⟩ := bnd h
    obtain ⟨hc_v3, e_v3⟩ := hp_on_of e_v3
    refine G_callVv F (As := []) (st := []) (metX8_here X e_v3) hc_v3 rfl rfl (lw_V q480 q482 qs3 q110 q483) hdfX8_here ⟨by omega, by decide⟩ rfl (Nat.le_of_ble_eq_true rfl) ⟨by omega, by omega⟩ dX8_seesDigit_10 ?_
    refine G_bipush F (v := (57 : Int32)) dX8_seesDigit_13 (by decide) ?_
    refine G_icmp_gt F (tgt := 22) dX8_seesDigit_15 (by decide) (fun c4 => ?_) (fun c4 => ?_)
    · have h := itt c4 h
      refine G_iconst F (v := (0 : Int32)) dX8_seesDigit_22 (by decide) ?_
      cases h
      exact G_zret F rfl (Or.inl rfl) (Nat.le_refl _) (Nat.le_refl _) rfl dX8_seesDigit_23
    · have h := itf c4 h
      refine G_iconst F (v := (1 : Int32)) dX8_seesDigit_18 (by decide) ?_
      refine G_goto F (tgt := 23) dX8_seesDigit_19 (by decide) ?_
      cases h
      exact G_zret F rfl (Or.inr rfl) (Nat.le_refl _) (Nat.le_refl _) rfl dX8_seesDigit_23

theorem metX8_number (X : Gx) {m : Hp} {nx : Nat} {a0 : Option Nat} {rv : Int32} {m_ : Hp} (h : fX8_number m a0 = some (rv, m_)) : Con X (3) yX8_number cX8_number 3 ((Option.some FieldType.int)) [.inr a0] m nx (some (.inl rv)) m_ 0 0 := by
  refine Con.of (own := RX8) (nm := "number") (L := [some (.inr a0), none, none]) (by decide +kernel) rfl rfl (Nat.le_of_ble_eq_true rfl) (ent_of 2 rfl) ?_
  intro cx F
  refine G_aload_n F dX8_number_0 rfl ?_
  obtain ⟨v1, e_v1, h⟩ := bnd h
  refine G_getI F okX8 (f := 2) (by decide) q448 rfl dX8_number_1 e_v1 ?_
  refine G_istore_n F (L2 := [some (.inr a0), some (.inl v1), none]) dX8_number_4 (by decide) rfl ?_
  refine G_iconst F (v := (0 : Int32)) dX8_number_5 (by decide) ?_
  refine G_istore_n F (L2 := [some (.inr a0), some (.inl v1), some (.inl (0 : Int32))]) dX8_number_6 (by decide) rfl ?_
  obtain ⟨r2, hr2, h⟩ := bnd h
  have KE2 : ∀ (v16 : Int32) (m17 : Hp), (v16, m17) = r2 → G X cx 3 (Qm X cx (some (.inl rv)) m_ nx 0 0) (0) (0) m17 (nx) [none, none, some (.inl v16)] [] 66 := by
    intro v16 m17 hq
    subst hq
    try dsimp only at h
    refine G_iload_n F dX8_number_66 rfl ?_
    cases h
    exact G_iret F rfl (Nat.le_refl _) (Nat.le_refl _) rfl dX8_number_67
  have KB2 : ∀ s o2, fX8_number_L7 a0 v1 s = some o2 → (∀ s', o2 = Sum.inl s' → (fun (s : (Int32 × Hp)) => match s with | (s2_2, m2) => G X cx 3 (Qm X cx (some (.inl rv)) m_ nx 0 0) (0) (0) m2 (nx) [some (.inr a0), some (.inl v1), some (.inl s2_2)] [] 7) s') → (∀ q, o2 = Sum.inr q → q = r2) → (fun (s : (Int32 × Hp)) => match s with | (s2_2, m2) => G X cx 3 (Qm X cx (some (.inl rv)) m_ nx 0 0) (0) (0) m2 (nx) [some (.inr a0), some (.inl v1), some (.inl s2_2)] [] 7) s := by
    intro s o2 h hP2 hE2
    obtain ⟨s2_2, m2⟩ := s
    try dsimp only at hP2 hE2 ⊢
    refine G_aload_n F dX8_number_7 rfl ?_
    obtain ⟨v3, e_v3, h⟩ := bnd h
    obtain ⟨hc_v3, e_v3⟩ := hp_on_of e_v3
    refine G_callVv F (As := []) (st := []) (metX8_isGood X e_v3) hc_v3 rfl rfl (lw_V q472 q474 qs1 q110 q475) hdfX8_isGood ⟨by omega, by decide⟩ rfl (Nat.le_of_ble_eq_true rfl) ⟨by omega, by omega⟩ dX8_number_8 ?_
    refine G_if_eq F (tgt := 66) dX8_number_11 (by decide) (fun c4 => ?_) (fun c4 => ?_)
    · have h := itt c4 h
      cases h
      exact G_sub F (L2 := [none, none, some (.inl s2_2)]) ⟨rfl, trivial⟩ (KE2 _ _ (hE2 _ rfl))
    · have h := itf c4 h
      refine G_aload_n F dX8_number_14 rfl ?_
      obtain ⟨v5, e_v5, h⟩ := bnd h
      obtain ⟨hc_v5, e_v5⟩ := hp_on_of e_v5
      refine G_callVv F (As := []) (st := []) (metX8_seesDigit X e_v5) hc_v5 rfl rfl (lw_V q597 q599 qs10 q110 q600) hdfX8_seesDigit ⟨by omega, by decide⟩ rfl (Nat.le_of_ble_eq_true rfl) ⟨by omega, by omega⟩ dX8_number_15 ?_
      refine G_if_eq F (tgt := 66) dX8_number_18 (by decide) (fun c6 => ?_) (fun c6 => ?_)
      · have h := itt c6 h
        cases h
        exact G_sub F (L2 := [none, none, some (.inl s2_2)]) ⟨rfl, trivial⟩ (KE2 _ _ (hE2 _ rfl))
      · have h := itf c6 h
        refine G_aload_n F dX8_number_21 rfl ?_
        obtain ⟨v7, e_v7, h⟩ := bnd h
        refine G_getI F okX8 (f := 2) (by decide) q448 rfl dX8_number_22 e_v7 ?_
        refine G_iload_n F dX8_number_25 rfl ?_
        refine G_iconst F (v := (5 : Int32)) dX8_number_26 (by decide) ?_
        refine G_iadd F dX8_number_27 ?_
        obtain ⟨p9, hp9, h⟩ := bnd h
        have K9 : ∀ (m8 : Hp), m8 = p9 → G X cx 3 (Qm X cx (some (.inl rv)) m_ nx 0 0) (0) (0) m8 (nx) [some (.inr a0), some (.inl v1), some (.inl s2_2)] [] 40 := by
          intro m8 hq
          subst hq
          try dsimp only at h
          refine G_bipush F (v := (10 : Int32)) dX8_number_40 (by decide) ?_
          refine G_iload_n F dX8_number_42 rfl ?_
          refine G_imul F dX8_number_43 ?_
          refine G_aload_n F dX8_number_44 rfl ?_
          obtain ⟨v10, e_v10, h⟩ := bnd h
          obtain ⟨hc_v10, e_v10⟩ := hp_on_of e_v10
          refine G_callVv F (As := []) (st := [.inl ((10 : Int32) * s2_2)]) (metX8_here X e_v10) hc_v10 rfl rfl (lw_V q480 q482 qs3 q110 q483) hdfX8_here ⟨by omega, by decide⟩ rfl (Nat.le_of_ble_eq_true rfl) ⟨by omega, by omega⟩ dX8_number_45 ?_
          refine G_iadd F dX8_number_48 ?_
          refine G_bipush F (v := (48 : Int32)) dX8_number_49 (by decide) ?_
          refine G_isub F dX8_number_51 ?_
          refine G_istore_n F (L2 := [some (.inr a0), some (.inl v1), some (.inl ((((10 : Int32) * s2_2) + v10) - (48 : Int32)))]) dX8_number_52 (by decide) rfl ?_
          refine G_aload_n F dX8_number_53 rfl ?_
          refine G_dup F dX8_number_54 ?_
          obtain ⟨v11, e_v11, h⟩ := bnd h
          refine G_getI F okX8 (f := 2) (by decide) q448 rfl dX8_number_55 e_v11 ?_
          refine G_iconst F (v := (1 : Int32)) dX8_number_58 (by decide) ?_
          refine G_iadd F dX8_number_59 ?_
          obtain ⟨m12, e_m12, h⟩ := bnd h
          refine G_putV F okX8 (f := 2) (by decide) q448 rfl rfl dX8_number_60 (vfit_int _) e_m12 ?_
          refine G_goto F (tgt := 7) dX8_number_63 (by decide) ?_
          cases h
          exact G_sub F (L2 := [some (.inr a0), some (.inl v1), some (.inl ((((10 : Int32) * s2_2) + v10) - (48 : Int32)))]) ⟨rfl, ⟨rfl, ⟨rfl, trivial⟩⟩⟩ (hP2 _ rfl)
        have h := hp9
        clear hp9
        refine G_icmp_ne F (tgt := 40) dX8_number_28 (by decide) (fun c13 => ?_) (fun c13 => ?_)
        · have h := itf c13 h
          have hq_ := Option.some.inj h
          exact G_sub F (L2 := [some (.inr a0), some (.inl v1), some (.inl s2_2)]) ⟨rfl, ⟨rfl, ⟨rfl, trivial⟩⟩⟩ (K9 _ hq_)
        · have h := itt c13 h
          refine G_aload_n F dX8_number_31 rfl ?_
          refine G_iconst F (v := (2 : Int32)) dX8_number_32 (by decide) ?_
          refine G_aload_n F dX8_number_33 rfl ?_
          obtain ⟨v14, e_v14, h⟩ := bnd h
          refine G_getI F okX8 (f := 2) (by decide) q448 rfl dX8_number_34 e_v14 ?_
          obtain ⟨m15, e_m15, h⟩ := bnd h
          obtain ⟨hc_m15, e_m15⟩ := hp_on_of e_m15
          refine G_callV0 F (As := [.inl (2 : Int32), .inl v14]) (st := []) (metX8_bad X e_m15) hc_m15 rfl rfl (lw_V q571 q573 qs4 q110 q574) hdfX8_bad ⟨by omega, by decide⟩ rfl (Nat.le_of_ble_eq_true rfl) ⟨by omega, by omega⟩ dX8_number_37 ?_
          have hq_ := Option.some.inj h
          exact G_sub F (L2 := [some (.inr a0), some (.inl v1), some (.inl s2_2)]) ⟨rfl, ⟨rfl, ⟨rfl, trivial⟩⟩⟩ (K9 _ hq_)
  have hI := iter_ok (fun (s : (Int32 × Hp)) => match s with | (s2_2, m2) => G X cx 3 (Qm X cx (some (.inl rv)) m_ nx 0 0) (0) (0) m2 (nx) [some (.inr a0), some (.inl v1), some (.inl s2_2)] [] 7) (fun q => q = r2) KB2 _ _ _ hr2 rfl
  exact G_sub F (L2 := [some (.inr a0), some (.inl v1), some (.inl (0 : Int32))]) ⟨rfl, ⟨rfl, ⟨rfl, trivial⟩⟩⟩ hI

theorem metX9_init (X : Gx) (m : Hp) (nx a0 : Nat) : Con X 2 yX9_init cX9_init 1 ((none : Option FieldType)) [.inr (some a0)] m nx none m 0 0 := by
  refine Con.of (own := RX9) (nm := "<init>") (L := [some (.inr (some a0))]) (by decide +kernel) rfl rfl (Nat.le_of_ble_eq_true rfl) (ent_of 0 rfl) ?_
  intro cx F
  refine G_aload_n F dX9_init_0 rfl ?_
  refine G_objInit F q613 q134 q135 (by omega) (Nat.le_of_ble_eq_true rfl) dX9_init_1 ?_
  exact G_vret F rfl (Nat.le_refl _) (Nat.le_refl _) rfl dX9_init_4

theorem metX11_init (X : Gx) {m : Hp} {nx : Nat} {a0 : Nat} {a1 : Int32} {m_ : Hp} (h : fX11_init m a0 a1 = some m_) : Con X (3) yX11_init cX11_init 2 ((none : Option FieldType)) [.inr (some a0), .inl a1] m nx none m_ 0 0 := by
  refine Con.of (own := RX11) (nm := "<init>") (L := [some (.inr (some a0)), some (.inl a1)]) (by decide +kernel) rfl rfl (Nat.le_of_ble_eq_true rfl) (ent_of 0 rfl) ?_
  intro cx F
  refine G_aload_n F dX11_init_0 rfl ?_
  refine G_callIN0 F (As := []) (st := []) (metX9_init X _ _ _) q612 q117 q610 q611 rfl hdfX9_init ⟨by omega, by decide⟩ rfl (Nat.le_of_ble_eq_true rfl) ⟨by omega, by omega⟩ dX11_init_1 ?_
  refine G_aload_n F dX11_init_4 rfl ?_
  refine G_iload_n F dX11_init_5 rfl ?_
  obtain ⟨m1, e_m1, h⟩ := bnd h
  refine G_putVF F okX11 (f := 0) (by decide) q614 rfl rfl rfl dX11_init_6 (vfit_int _) e_m1 ?_
  cases h
  exact G_vret F rfl (Nat.le_refl _) (Nat.le_refl _) rfl dX11_init_9

theorem metX12_init (X : Gx) {m : Hp} {nx : Nat} {a0 : Nat} {a1 : Int32} {m_ : Hp} (h : fX12_init m a0 a1 = some m_) : Con X (3) yX12_init cX12_init 2 ((none : Option FieldType)) [.inr (some a0), .inl a1] m nx none m_ 0 0 := by
  refine Con.of (own := RX12) (nm := "<init>") (L := [some (.inr (some a0)), some (.inl a1)]) (by decide +kernel) rfl rfl (Nat.le_of_ble_eq_true rfl) (ent_of 0 rfl) ?_
  intro cx F
  refine G_aload_n F dX12_init_0 rfl ?_
  refine G_callIN0 F (As := []) (st := []) (metX9_init X _ _ _) q612 q117 q624 q611 rfl hdfX9_init ⟨by omega, by decide⟩ rfl (Nat.le_of_ble_eq_true rfl) ⟨by omega, by omega⟩ dX12_init_1 ?_
  refine G_aload_n F dX12_init_4 rfl ?_
  refine G_iload_n F dX12_init_5 rfl ?_
  obtain ⟨m1, e_m1, h⟩ := bnd h
  refine G_putVF F okX12 (f := 0) (by decide) q625 rfl rfl rfl dX12_init_6 (vfit_int _) e_m1 ?_
  cases h
  exact G_vret F rfl (Nat.le_refl _) (Nat.le_refl _) rfl dX12_init_9

theorem metX8_factor (X : Gx) {dr : Nat} (hdr : 30 ≤ dr) {rec : Hp → Nat → Option Nat → Option ((Option Nat × Hp) × Nat × Nat)} (hrec : ∀ {m : Hp} {nx : Nat} {a0 : Option Nat} {rv : Option Nat} {m_ : Hp} {dc ds : Nat}, rec m nx a0 = some ((rv, m_), dc, ds) → Con X (dr) yX8_sum cX8_sum 4 (Option.some (FieldType.object "MissedTrains$Sum")) [.inr a0] m nx (some (.inr rv)) m_ dc ds) {m : Hp} {nx : Nat} {a0 : Option Nat} {rv : Option Nat} {m_ : Hp} {dc ds : Nat} (h : fX8_factor rec m nx a0 = some ((rv, m_), dc, ds)) : Con X (dr + 1) yX8_factor cX8_factor 3 ((Option.some (FieldType.object "MissedTrains$Sum"))) [.inr a0] m nx (some (.inr rv)) m_ dc ds := by
  refine Con.of (own := RX8) (nm := "factor") (L := [some (.inr a0), none, none]) (by decide +kernel) rfl rfl (Nat.le_of_ble_eq_true rfl) (ent_of 2 rfl) ?_
  intro cx F
  refine G_aload_n F dX8_factor_0 rfl ?_
  obtain ⟨v1, e_v1, h⟩ := bnd h
  obtain ⟨hc_v1, e_v1⟩ := hp_on_of e_v1
  refine G_callVv F (As := []) (st := []) (metX8_here X e_v1) hc_v1 rfl rfl (lw_V q480 q482 qs3 q110 q483) hdfX8_here ⟨by omega, by decide⟩ rfl (Nat.le_of_ble_eq_true rfl) ⟨by omega, by omega⟩ dX8_factor_1 ?_
  refine G_istore_n F (L2 := [some (.inr a0), some (.inl v1), none]) dX8_factor_4 (by decide) rfl ?_
  refine G_iload_n F dX8_factor_5 rfl ?_
  refine G_bipush F (v := (91 : Int32)) dX8_factor_6 (by decide) ?_
  refine G_icmp_ne F (tgt := 56) dX8_factor_8 (by decide) (fun c2 => ?_) (fun c2 => ?_)
  · have h := itf c2 h
    refine G_aload_n F dX8_factor_56 rfl ?_
    obtain ⟨v3, e_v3, h⟩ := bnd h
    obtain ⟨hc_v3, e_v3⟩ := hp_on_of e_v3
    refine G_callVv F (As := []) (st := []) (metX8_seesDigit X e_v3) hc_v3 rfl rfl (lw_V q597 q599 qs10 q110 q600) hdfX8_seesDigit ⟨by omega, by decide⟩ rfl (Nat.le_of_ble_eq_true rfl) ⟨by omega, by omega⟩ dX8_factor_57 ?_
    refine G_if_eq F (tgt := 75) dX8_factor_60 (by decide) (fun c4 => ?_) (fun c4 => ?_)
    · have h := itt c4 h
      refine G_iload_n F dX8_factor_75 rfl ?_
      obtain ⟨⟨p6, d6, c6⟩, hp6, h⟩ := bnd h
      obtain ⟨D7, C7, h, hD7, hC7⟩ := andA_of h; try dsimp only at hD7 hC7
      have K6 : ∀ (m5 : Hp), m5 = p6 → G X cx 3 (Qm X cx (some (.inr rv)) m_ nx dc ds) (0 + d6) (0 + c6) m5 (nx + d6) [some (.inr a0), some (.inl v1), none] [] 97 := by
        intro m5 hq
        subst hq
        try dsimp only at h
        refine G_aload_n F dX8_factor_97 rfl ?_
        refine G_dup F dX8_factor_98 ?_
        obtain ⟨v8, e_v8, h⟩ := bnd h
        refine G_getI F okX8 (f := 2) (by decide) q448 rfl dX8_factor_99 e_v8 ?_
        refine G_iconst F (v := (1 : Int32)) dX8_factor_102 (by decide) ?_
        refine G_iadd F dX8_factor_103 ?_
        obtain ⟨m9, e_m9, h⟩ := bnd h
        refine G_putV F okX8 (f := 2) (by decide) q448 rfl rfl dX8_factor_104 (vfit_int _) e_m9 ?_
        obtain ⟨m10, e_m10, h⟩ := bnd h
        obtain ⟨D11, C11, h, hD11, hC11⟩ := andA_of h; try dsimp only at hD11 hC11
        refine G_newc F okX12 (fs := dfX12) q619 q620 q120 (by decide) (by omega) (by omega) dX8_factor_107 e_m10 ?_
        refine G_dup F dX8_factor_110 ?_
        refine G_iload_n F dX8_factor_111 rfl ?_
        obtain ⟨m12, e_m12, h⟩ := bnd h
        refine G_callI0 F (As := [.inl v1]) (st := [.inr (some (nx + d6))]) (metX12_init X e_m12) q623 q120 q621 q622 rfl hdfX12_init ⟨by omega, by decide⟩ rfl (Nat.le_of_ble_eq_true rfl) ⟨by omega, by omega⟩ dX8_factor_112 ?_
        cases h
        exact G_aret F rfl (by omega) (by omega) (by omega) dX8_factor_115
      have h := hp6
      clear hp6
      refine G_if_eq F (tgt := 88) dX8_factor_76 (by decide) (fun c13 => ?_) (fun c13 => ?_)
      · have h := itt c13 h
        refine G_aload_n F dX8_factor_88 rfl ?_
        refine G_iconst F (v := (1 : Int32)) dX8_factor_89 (by decide) ?_
        refine G_aload_n F dX8_factor_90 rfl ?_
        obtain ⟨v14, e_v14, h⟩ := bnd h
        refine G_getI F okX8 (f := 2) (by decide) q448 rfl dX8_factor_91 e_v14 ?_
        obtain ⟨m15, e_m15, h⟩ := bnd h
        obtain ⟨hc_m15, e_m15⟩ := hp_on_of e_m15
        refine G_callV0 F (As := [.inl (1 : Int32), .inl v14]) (st := []) (metX8_bad X e_m15) hc_m15 rfl rfl (lw_V q571 q573 qs4 q110 q574) hdfX8_bad ⟨by omega, by decide⟩ rfl (Nat.le_of_ble_eq_true rfl) ⟨by omega, by omega⟩ dX8_factor_94 ?_
        obtain ⟨hq_, hd_, hc_⟩ := lf3 h
        exact G_cnt (G_sub F (L2 := [some (.inr a0), some (.inl v1), none]) ⟨rfl, ⟨rfl, trivial⟩⟩ (K6 _ hq_)) (by omega) (by omega) (by omega)
      · have h := itf c13 h
        refine G_strS F dX8_factor_79 dX8_factor_81 rfl q485 (Nat.le_of_ble_eq_true rfl) dX8_factor_82 (by omega) ⟨by omega, by omega⟩ ?_
        refine G_if_ge F (tgt := 97) dX8_factor_85 (by decide) (fun c16 => ?_) (fun c16 => ?_)
        · have h := itt c16 h
          obtain ⟨hq_, hd_, hc_⟩ := lf3 h
          exact G_cnt (G_sub F (L2 := [some (.inr a0), some (.inl v1), none]) ⟨rfl, ⟨rfl, trivial⟩⟩ (K6 _ hq_)) (by omega) (by omega) (by omega)
        · have h := itf c16 h
          refine G_aload_n F dX8_factor_88 rfl ?_
          refine G_iconst F (v := (1 : Int32)) dX8_factor_89 (by decide) ?_
          refine G_aload_n F dX8_factor_90 rfl ?_
          obtain ⟨v17, e_v17, h⟩ := bnd h
          refine G_getI F okX8 (f := 2) (by decide) q448 rfl dX8_factor_91 e_v17 ?_
          obtain ⟨m18, e_m18, h⟩ := bnd h
          obtain ⟨hc_m18, e_m18⟩ := hp_on_of e_m18
          refine G_callV0 F (As := [.inl (1 : Int32), .inl v17]) (st := []) (metX8_bad X e_m18) hc_m18 rfl rfl (lw_V q571 q573 qs4 q110 q574) hdfX8_bad ⟨by omega, by decide⟩ rfl (Nat.le_of_ble_eq_true rfl) ⟨by omega, by omega⟩ dX8_factor_94 ?_
          obtain ⟨hq_, hd_, hc_⟩ := lf3 h
          exact G_cnt (G_sub F (L2 := [some (.inr a0), some (.inl v1), none]) ⟨rfl, ⟨rfl, trivial⟩⟩ (K6 _ hq_)) (by omega) (by omega) (by omega)
    · have h := itf c4 h
      obtain ⟨m19, e_m19, h⟩ := bnd h
      obtain ⟨D20, C20, h, hD20, hC20⟩ := andA_of h; try dsimp only at hD20 hC20
      refine G_newc F okX11 (fs := dfX11) q601 q602 q119 (by decide) (by omega) (by omega) dX8_factor_63 e_m19 ?_
      refine G_dup F dX8_factor_66 ?_
      refine G_aload_n F dX8_factor_67 rfl ?_
      obtain ⟨⟨v21, m22⟩, e_v21, h⟩ := bnd h
      obtain ⟨hc_v21, e_v21⟩ := hp_on_of e_v21
      refine G_callVv F (As := []) (st := [.inr (some (nx)), .inr (some (nx))]) (metX8_number X e_v21) hc_v21 rfl rfl (lw_V q603 q605 qs11 q110 q606) hdfX8_number ⟨by omega, by decide⟩ rfl (Nat.le_of_ble_eq_true rfl) ⟨by omega, by omega⟩ dX8_factor_68 ?_
      obtain ⟨m23, e_m23, h⟩ := bnd h
      refine G_callI0 F (As := [.inl v21]) (st := [.inr (some (nx))]) (metX11_init X e_m23) q609 q119 q607 q608 rfl hdfX11_init ⟨by omega, by decide⟩ rfl (Nat.le_of_ble_eq_true rfl) ⟨by omega, by omega⟩ dX8_factor_71 ?_
      cases h
      exact G_aret F rfl (by omega) (by omega) (by omega) dX8_factor_74
  · have h := itt c2 h
    refine G_aload_n F dX8_factor_11 rfl ?_
    obtain ⟨m24, e_m24, h⟩ := bnd h
    obtain ⟨hc_m24, e_m24⟩ := hp_on_of e_m24
    refine G_callV0 F (As := []) (st := []) (metX8_opens X e_m24) hc_m24 rfl rfl (lw_V q589 q591 qs8 q110 q592) hdfX8_opens ⟨by omega, by decide⟩ rfl (Nat.le_of_ble_eq_true rfl) ⟨by omega, by omega⟩ dX8_factor_12 ?_
    refine G_aload_n F dX8_factor_15 rfl ?_
    obtain ⟨v25, e_v25, h⟩ := bnd h
    obtain ⟨hc_v25, e_v25⟩ := hp_on_of e_v25
    refine G_callVv F (As := []) (st := []) (metX8_isGood X e_v25) hc_v25 rfl rfl (lw_V q472 q474 qs1 q110 q475) hdfX8_isGood ⟨by omega, by decide⟩ rfl (Nat.le_of_ble_eq_true rfl) ⟨by omega, by omega⟩ dX8_factor_16 ?_
    obtain ⟨⟨p28, d28, c28⟩, hp28, h⟩ := bnd h
    obtain ⟨D29, C29, h, hD29, hC29⟩ := andA_of h; try dsimp only at hD29 hC29
    have K28 : ∀ (v26 : Option Nat) (m27 : Hp), (v26, m27) = p28 → G X cx 3 (Qm X cx (some (.inr rv)) m_ nx dc ds) (0 + d28) (0 + c28) m27 (nx + d28) [some (.inr a0), none, none] [.inr v26] 30 := by
      intro v26 m27 hq
      subst hq
      try dsimp only at h
      refine G_astore_n F (L2 := [some (.inr a0), none, some (.inr v26)]) dX8_factor_30 (by decide) rfl ?_
      refine G_aload_n F dX8_factor_31 rfl ?_
      obtain ⟨v30, e_v30, h⟩ := bnd h
      obtain ⟨hc_v30, e_v30⟩ := hp_on_of e_v30
      refine G_callVv F (As := []) (st := []) (metX8_isGood X e_v30) hc_v30 rfl rfl (lw_V q472 q474 qs1 q110 q475) hdfX8_isGood ⟨by omega, by decide⟩ rfl (Nat.le_of_ble_eq_true rfl) ⟨by omega, by omega⟩ dX8_factor_32 ?_
      obtain ⟨⟨p32, d32, c32⟩, hp32, h⟩ := bnd h
      obtain ⟨D33, C33, h, hD33, hC33⟩ := andA_of h; try dsimp only at hD33 hC33
      have K32 : ∀ (m31 : Hp), m31 = p32 → G X cx 3 (Qm X cx (some (.inr rv)) m_ nx dc ds) (0 + d28 + d32) (0 + c28 + c32) m31 (nx + d28 + d32) [some (.inr a0), none, some (.inr v26)] [] 44 := by
        intro m31 hq
        subst hq
        try dsimp only at h
        refine G_aload_n F dX8_factor_44 rfl ?_
        refine G_dup F dX8_factor_45 ?_
        obtain ⟨v34, e_v34, h⟩ := bnd h
        refine G_getI F okX8 (f := 3) (by decide) q449 rfl dX8_factor_46 e_v34 ?_
        refine G_iconst F (v := (1 : Int32)) dX8_factor_49 (by decide) ?_
        refine G_isub F dX8_factor_50 ?_
        obtain ⟨m35, e_m35, h⟩ := bnd h
        refine G_putV F okX8 (f := 3) (by decide) q449 rfl rfl dX8_factor_51 (vfit_int _) e_m35 ?_
        refine G_aload_n F dX8_factor_54 rfl ?_
        cases h
        exact G_aret F rfl (by omega) (by omega) (by omega) dX8_factor_55
      have h := hp32
      clear hp32
      refine G_if_eq F (tgt := 44) dX8_factor_35 (by decide) (fun c36 => ?_) (fun c36 => ?_)
      · have h := itt c36 h
        obtain ⟨hq_, hd_, hc_⟩ := lf3 h
        exact G_cnt (G_sub F (L2 := [some (.inr a0), none, some (.inr v26)]) ⟨rfl, ⟨rfl, trivial⟩⟩ (K32 _ hq_)) (by omega) (by omega) (by omega)
      · have h := itf c36 h
        refine G_aload_n F dX8_factor_38 rfl ?_
        refine G_bipush F (v := (93 : Int32)) dX8_factor_39 (by decide) ?_
        obtain ⟨m37, e_m37, h⟩ := bnd h
        obtain ⟨hc_m37, e_m37⟩ := hp_on_of e_m37
        refine G_callV0 F (As := [.inl (93 : Int32)]) (st := []) (metX8_must X e_m37) hc_m37 rfl rfl (lw_V q593 q595 qs9 q110 q596) hdfX8_must ⟨by omega, by decide⟩ rfl (Nat.le_of_ble_eq_true rfl) ⟨by omega, by omega⟩ dX8_factor_41 ?_
        obtain ⟨hq_, hd_, hc_⟩ := lf3 h
        exact G_cnt (G_sub F (L2 := [some (.inr a0), none, some (.inr v26)]) ⟨rfl, ⟨rfl, trivial⟩⟩ (K32 _ hq_)) (by omega) (by omega) (by omega)
    have h := hp28
    clear hp28
    refine G_if_eq F (tgt := 29) dX8_factor_19 (by decide) (fun c38 => ?_) (fun c38 => ?_)
    · have h := itt c38 h
      refine G_null F dX8_factor_29 ?_
      obtain ⟨hq_, hd_, hc_⟩ := lf3 h
      exact G_cnt (G_sub F (L2 := [some (.inr a0), none, none]) ⟨rfl, trivial⟩ (K28 _ _ hq_)) (by omega) (by omega) (by omega)
    · have h := itf c38 h
      refine G_aload_n F dX8_factor_22 rfl ?_
      obtain ⟨⟨⟨v39, m40⟩, d41, c42⟩, e_v39, h⟩ := bnd h
      obtain ⟨D43, C43, h, hD43, hC43⟩ := andA_of h; try dsimp only at hD43 hC43
      obtain ⟨hc_v39, e_v39⟩ := hp_on_of e_v39
      refine G_callVv F (As := []) (st := []) (hrec e_v39) hc_v39 rfl rfl (lw_V q575 q577 qs5 q110 q578) hdfX8_sumB ⟨by omega, by decide⟩ rfl (Nat.le_of_ble_eq_true rfl) ⟨by omega, by omega⟩ dX8_factor_23 ?_
      refine G_goto F (tgt := 30) dX8_factor_26 (by decide) ?_
      obtain ⟨hq_, hd_, hc_⟩ := lf3 h
      exact G_cnt (G_sub F (L2 := [some (.inr a0), none, none]) ⟨rfl, trivial⟩ (K28 _ _ hq_)) (by omega) (by omega) (by omega)

theorem metX10_init (X : Gx) {m : Hp} {nx : Nat} {a0 : Nat} {a1 : Int32} {a2 : Option Nat} {m_ : Hp} (h : fX10_init m a0 a1 a2 = some m_) : Con X (3) yX10_init cX10_init 3 ((none : Option FieldType)) [.inr (some a0), .inl a1, .inr a2] m nx none m_ 0 0 := by
  refine Con.of (own := RX10) (nm := "<init>") (L := [some (.inr (some a0)), some (.inl a1), some (.inr a2)]) (by decide +kernel) rfl rfl (Nat.le_of_ble_eq_true rfl) (ent_of 0 rfl) ?_
  intro cx F
  refine G_aload_n F dX10_init_0 rfl ?_
  refine G_callIN0 F (As := []) (st := []) (metX9_init X _ _ _) q612 q117 q632 q611 rfl hdfX9_init ⟨by omega, by decide⟩ rfl (Nat.le_of_ble_eq_true rfl) ⟨by omega, by omega⟩ dX10_init_1 ?_
  refine G_aload_n F dX10_init_4 rfl ?_
  refine G_iload_n F dX10_init_5 rfl ?_
  obtain ⟨m1, e_m1, h⟩ := bnd h
  refine G_putVF F okX10 (f := 0) (by decide) q633 rfl rfl rfl dX10_init_6 (vfit_int _) e_m1 ?_
  refine G_aload_n F dX10_init_9 rfl ?_
  refine G_aload_n F dX10_init_10 rfl ?_
  obtain ⟨m2, e_m2, h⟩ := bnd h
  refine G_putVF F okX10 (f := 1) (by decide) q634 rfl rfl rfl dX10_init_11 (vfit_obj _ _) e_m2 ?_
  cases h
  exact G_vret F rfl (Nat.le_refl _) (Nat.le_refl _) rfl dX10_init_14
