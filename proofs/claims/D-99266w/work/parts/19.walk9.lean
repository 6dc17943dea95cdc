set_option maxRecDepth 100000
set_option linter.unusedVariables false
theorem metX7_latest (X : Gx) {m : Hp} {nx : Nat} {a0 : Option Nat} {a1 : Int32} {a2 : Int32} {a3 : Int32} {rv : Int32} {m_ : Hp} (h : fX7_latest m a0 a1 a2 a3 = some (rv, m_)) : Con X (6) yX7_latest cX7_latest 6 ((Option.some FieldType.int)) [.inr a0, .inl a1, .inl a2, .inl a3] m nx (some (.inl rv)) m_ 0 0 := by
  refine Con.of (own := RX7) (nm := "latest") (L := [some (.inr a0), some (.inl a1), some (.inl a2), some (.inl a3), none, none]) (by decide +kernel) rfl rfl (Nat.le_of_ble_eq_true rfl) (ent_of 2 rfl) ?_
  intro cx F
  refine G_iload_n F dX7_latest_0 rfl ?_
  refine G_iload_n F dX7_latest_1 rfl ?_
  obtain ⟨v1, e_v1, h⟩ := bnd h
  refine G_callSv F (As := [.inl a1, .inl a2]) (st := []) (metX7_areTwo X e_v1) (lw_S q1430 q1431 q109 q1432) hdfX7_areTwo ⟨by omega, by decide⟩ rfl (Nat.le_of_ble_eq_true rfl) ⟨by omega, by omega⟩ dX7_latest_2 ?_
  refine G_if_eq F (tgt := 19) dX7_latest_5 (by decide) (fun c2 => ?_) (fun c2 => ?_)
  · have h := itt c2 h
    refine G_iconst F (v := (-1 : Int32)) dX7_latest_19 (by decide) ?_
    cases h
    exact G_iret F rfl (Nat.le_refl _) (Nat.le_refl _) rfl dX7_latest_20
  · have h := itf c2 h
    refine G_iload_n F dX7_latest_8 rfl ?_
    refine G_iconst F (v := (0 : Int32)) dX7_latest_9 (by decide) ?_
    refine G_sipush F (v := (1439 : Int32)) dX7_latest_10 (by decide) ?_
    obtain ⟨v3, e_v3, h⟩ := bnd h
    refine G_callSv F (As := [.inl a3, .inl (0 : Int32), .inl (1439 : Int32)]) (st := []) (metX7_in X e_v3) (lw_S q1427 q1428 q109 q1429) hdfX7_in ⟨by omega, by decide⟩ rfl (Nat.le_of_ble_eq_true rfl) ⟨by omega, by omega⟩ dX7_latest_13 ?_
    refine G_if_ne F (tgt := 21) dX7_latest_16 (by decide) (fun c4 => ?_) (fun c4 => ?_)
    · have h := itf c4 h
      refine G_aload_n F dX7_latest_21 rfl ?_
      obtain ⟨v5, e_v5, h⟩ := bnd h
      refine G_getI F okX7 (f := 15) (by decide) q1239 rfl dX7_latest_22 e_v5 ?_
      refine G_iconst F (v := (1 : Int32)) dX7_latest_25 (by decide) ?_
      refine G_isub F dX7_latest_26 ?_
      refine G_istore F (L2 := [some (.inr a0), some (.inl a1), some (.inl a2), some (.inl a3), some (.inl (v5 - (1 : Int32))), none]) dX7_latest_27 (by decide) rfl ?_
      obtain ⟨r6, hr6, h⟩ := bnd h
      have KE6 : ∀ (m22 : Hp), Sum.inl m22 = r6 → G X cx 6 (Qm X cx (some (.inl rv)) m_ nx 0 0) (0) (0) m22 (nx) [none, none, none, none, none, none] [] 98 := by
        intro m22 hq
        subst hq
        try dsimp only at h
        refine G_bipush F (v := (-2 : Int32)) dX7_latest_98 (by decide) ?_
        cases h
        exact G_iret F rfl (Nat.le_refl _) (Nat.le_refl _) rfl dX7_latest_100
      have KR6 : ∀ q, Sum.inr q = r6 → some q = some (rv, m_) := by
        intro q hq
        subst hq
        exact h
      have KB6 : ∀ s o6, fX7_latest_L29 a0 a1 a2 a3 s = some o6 → (∀ s', o6 = Sum.inl s' → (fun (s : (Int32 × Hp)) => match s with | (s4_6, m6) => G X cx 6 (Qm X cx (some (.inl rv)) m_ nx 0 0) (0) (0) m6 (nx) [some (.inr a0), some (.inl a1), some (.inl a2), some (.inl a3), some (.inl s4_6), none] [] 29) s') → (∀ q, o6 = Sum.inr q → q = r6) → (fun (s : (Int32 × Hp)) => match s with | (s4_6, m6) => G X cx 6 (Qm X cx (some (.inl rv)) m_ nx 0 0) (0) (0) m6 (nx) [some (.inr a0), some (.inl a1), some (.inl a2), some (.inl a3), some (.inl s4_6), none] [] 29) s := by
        intro s o6 h hP6 hE6
        obtain ⟨s4_6, m6⟩ := s
        try dsimp only at hP6 hE6 ⊢
        refine G_iload F dX7_latest_29 rfl ?_
        refine G_if_lt F (tgt := 98) dX7_latest_31 (by decide) (fun c7 => ?_) (fun c7 => ?_)
        · have h := itt c7 h
          cases h
          exact G_sub F (L2 := [none, none, none, none, none, none]) trivial (KE6 _ (hE6 _ rfl))
        · have h := itf c7 h
          refine G_aload_n F dX7_latest_34 rfl ?_
          obtain ⟨v8, e_v8, h⟩ := bnd h
          refine G_getR F okX7 (f := 10) (by decide) q1234 rfl dX7_latest_35 e_v8 ?_
          refine G_iload F dX7_latest_38 rfl ?_
          obtain ⟨v9, e_v9, h⟩ := bnd h
          refine G_iald F dX7_latest_40 e_v9 ?_
          refine G_istore F (L2 := [some (.inr a0), some (.inl a1), some (.inl a2), some (.inl a3), some (.inl s4_6), some (.inl v9)]) dX7_latest_41 (by decide) rfl ?_
          refine G_aload_n F dX7_latest_43 rfl ?_
          obtain ⟨v10, e_v10, h⟩ := bnd h
          refine G_getR F okX7 (f := 7) (by decide) q1231 rfl dX7_latest_44 e_v10 ?_
          refine G_iload F dX7_latest_47 rfl ?_
          obtain ⟨v11, e_v11, h⟩ := bnd h
          refine G_iald F dX7_latest_49 e_v11 ?_
          refine G_iload_n F dX7_latest_50 rfl ?_
          refine G_icmp_ne F (tgt := 92) dX7_latest_51 (by decide) (fun c12 => ?_) (fun c12 => ?_)
          · have h := itf c12 h
            refine G_iinc F (v := (s4_6 + (-1 : Int32))) (L2 := [some (.inr a0), some (.inl a1), some (.inl a2), some (.inl a3), some (.inl (s4_6 + (-1 : Int32))), some (.inl v9)]) dX7_latest_92 (by decide) rfl rfl rfl ?_
            refine G_goto F (tgt := 29) dX7_latest_95 (by decide) ?_
            cases h
            exact G_sub F (L2 := [some (.inr a0), some (.inl a1), some (.inl a2), some (.inl a3), some (.inl (s4_6 + (-1 : Int32))), none]) ⟨rfl, ⟨rfl, ⟨rfl, ⟨rfl, ⟨rfl, trivial⟩⟩⟩⟩⟩ (hP6 _ rfl)
          · have h := itt c12 h
            refine G_aload_n F dX7_latest_54 rfl ?_
            refine G_iload F dX7_latest_55 rfl ?_
            refine G_bipush F (v := (8 : Int32)) dX7_latest_57 (by decide) ?_
            refine G_idiv F (by decide) dX7_latest_59 ?_
            refine G_iload_n F dX7_latest_60 rfl ?_
            obtain ⟨v13, e_v13, h⟩ := bnd h
            obtain ⟨hc_v13, e_v13⟩ := hp_on_of e_v13
            refine G_callVv F (As := [.inl (v9 / (8 : Int32)), .inl a1]) (st := []) (metX7_leavesFrom X e_v13) hc_v13 rfl rfl (lw_V q1676 q1678 qs85 q109 q1679) hdfX7_leavesFrom ⟨by omega, by decide⟩ rfl (Nat.le_of_ble_eq_true rfl) ⟨by omega, by omega⟩ dX7_latest_61 ?_
            refine G_if_eq F (tgt := 92) dX7_latest_64 (by decide) (fun c14 => ?_) (fun c14 => ?_)
            · have h := itt c14 h
              refine G_iinc F (v := (s4_6 + (-1 : Int32))) (L2 := [some (.inr a0), some (.inl a1), some (.inl a2), some (.inl a3), some (.inl (s4_6 + (-1 : Int32))), some (.inl v9)]) dX7_latest_92 (by decide) rfl rfl rfl ?_
              refine G_goto F (tgt := 29) dX7_latest_95 (by decide) ?_
              cases h
              exact G_sub F (L2 := [some (.inr a0), some (.inl a1), some (.inl a2), some (.inl a3), some (.inl (s4_6 + (-1 : Int32))), none]) ⟨rfl, ⟨rfl, ⟨rfl, ⟨rfl, ⟨rfl, trivial⟩⟩⟩⟩⟩ (hP6 _ rfl)
            · have h := itf c14 h
              refine G_aload_n F dX7_latest_67 rfl ?_
              refine G_iload_n F dX7_latest_68 rfl ?_
              refine G_iload_n F dX7_latest_69 rfl ?_
              refine G_aload_n F dX7_latest_70 rfl ?_
              obtain ⟨v15, e_v15, h⟩ := bnd h
              refine G_getR F okX7 (f := 8) (by decide) q1232 rfl dX7_latest_71 e_v15 ?_
              refine G_iload F dX7_latest_74 rfl ?_
              obtain ⟨v16, e_v16, h⟩ := bnd h
              refine G_iald F dX7_latest_76 e_v16 ?_
              obtain ⟨⟨v17, m18⟩, e_v17, h⟩ := bnd h
              obtain ⟨hc_v17, e_v17⟩ := hp_on_of e_v17
              refine G_callVv F (As := [.inl a1, .inl a2, .inl v16]) (st := []) (metX7_soonest X e_v17) hc_v17 rfl rfl (lw_V q1659 q1661 qs82 q109 q1662) hdfX7_soonest ⟨by omega, by decide⟩ rfl (Nat.le_of_ble_eq_true rfl) ⟨by omega, by omega⟩ dX7_latest_77 ?_
              refine G_iload_n F dX7_latest_80 rfl ?_
              refine G_icmp_gt F (tgt := 92) dX7_latest_81 (by decide) (fun c19 => ?_) (fun c19 => ?_)
              · have h := itt c19 h
                refine G_iinc F (v := (s4_6 + (-1 : Int32))) (L2 := [some (.inr a0), some (.inl a1), some (.inl a2), some (.inl a3), some (.inl (s4_6 + (-1 : Int32))), some (.inl v9)]) dX7_latest_92 (by decide) rfl rfl rfl ?_
                refine G_goto F (tgt := 29) dX7_latest_95 (by decide) ?_
                cases h
                exact G_sub F (L2 := [some (.inr a0), some (.inl a1), some (.inl a2), some (.inl a3), some (.inl (s4_6 + (-1 : Int32))), none]) ⟨rfl, ⟨rfl, ⟨rfl, ⟨rfl, ⟨rfl, trivial⟩⟩⟩⟩⟩ (hP6 _ rfl)
              · have h := itf c19 h
                refine G_aload_n F dX7_latest_84 rfl ?_
                obtain ⟨v20, e_v20, h⟩ := bnd h
                refine G_getR F okX7 (f := 8) (by decide) q1232 rfl dX7_latest_85 e_v20 ?_
                refine G_iload F dX7_latest_88 rfl ?_
                obtain ⟨v21, e_v21, h⟩ := bnd h
                refine G_iald F dX7_latest_90 e_v21 ?_
                cases h
                have h := KR6 _ (hE6 _ rfl)
                cases h
                exact G_iret F rfl (Nat.le_refl _) (Nat.le_refl _) rfl dX7_latest_91
      have hI := iter_ok (fun (s : (Int32 × Hp)) => match s with | (s4_6, m6) => G X cx 6 (Qm X cx (some (.inl rv)) m_ nx 0 0) (0) (0) m6 (nx) [some (.inr a0), some (.inl a1), some (.inl a2), some (.inl a3), some (.inl s4_6), none] [] 29) (fun q => q = r6) KB6 _ _ _ hr6 rfl
      exact G_sub F (L2 := [some (.inr a0), some (.inl a1), some (.inl a2), some (.inl a3), some (.inl (v5 - (1 : Int32))), none]) ⟨rfl, ⟨rfl, ⟨rfl, ⟨rfl, ⟨rfl, trivial⟩⟩⟩⟩⟩ hI
    · have h := itt c4 h
      refine G_iconst F (v := (-1 : Int32)) dX7_latest_19 (by decide) ?_
      cases h
      exact G_iret F rfl (Nat.le_refl _) (Nat.le_refl _) rfl dX7_latest_20

theorem metX7_fastest (X : Gx) {m : Hp} {nx : Nat} {a0 : Option Nat} {a1 : Int32} {a2 : Int32} {rv : Int32} {m_ : Hp} (h : fX7_fastest m a0 a1 a2 = some (rv, m_)) : Con X (6) yX7_fastest cX7_fastest 7 ((Option.some FieldType.int)) [.inr a0, .inl a1, .inl a2] m nx (some (.inl rv)) m_ 0 0 := by
  refine Con.of (own := RX7) (nm := "fastest") (L := [some (.inr a0), some (.inl a1), some (.inl a2), none, none, none, none]) (by decide +kernel) rfl rfl (Nat.le_of_ble_eq_true rfl) (ent_of 4 rfl) ?_
  intro cx F
  refine G_iload_n F dX7_fastest_0 rfl ?_
  refine G_iload_n F dX7_fastest_1 rfl ?_
  obtain ⟨v1, e_v1, h⟩ := bnd h
  refine G_callSv F (As := [.inl a1, .inl a2]) (st := []) (metX7_areTwo X e_v1) (lw_S q1430 q1431 q109 q1432) hdfX7_areTwo ⟨by omega, by decide⟩ rfl (Nat.le_of_ble_eq_true rfl) ⟨by omega, by omega⟩ dX7_fastest_2 ?_
  refine G_if_ne F (tgt := 10) dX7_fastest_5 (by decide) (fun c2 => ?_) (fun c2 => ?_)
  · have h := itf c2 h
    refine G_ldcw F q1667 dX7_fastest_10 ?_
    refine G_istore_n F (L2 := [some (.inr a0), some (.inl a1), some (.inl a2), some (.inl (1000000 : Int32)), none, none, none]) dX7_fastest_13 (by decide) rfl ?_
    refine G_iconst F (v := (0 : Int32)) dX7_fastest_14 (by decide) ?_
    refine G_istore F (L2 := [some (.inr a0), some (.inl a1), some (.inl a2), some (.inl (1000000 : Int32)), some (.inl (0 : Int32)), none, none]) dX7_fastest_15 (by decide) rfl ?_
    obtain ⟨r3, hr3, h⟩ := bnd h
    have KE3 : ∀ (v13 : Int32) (m14 : Hp), (v13, m14) = r3 → G X cx 7 (Qm X cx (some (.inl rv)) m_ nx 0 0) (0) (0) m14 (nx) [none, none, none, some (.inl v13), none, none, none] [] 82 := by
      intro v13 m14 hq
      subst hq
      try dsimp only at h
      refine G_iload_n F dX7_fastest_82 rfl ?_
      refine G_ldcw F q1667 dX7_fastest_83 ?_
      refine G_icmp_ne F (tgt := 94) dX7_fastest_86 (by decide) (fun c15 => ?_) (fun c15 => ?_)
      · have h := itf c15 h
        refine G_iload_n F dX7_fastest_94 rfl ?_
        cases h
        exact G_iret F rfl (Nat.le_refl _) (Nat.le_refl _) rfl dX7_fastest_95
      · have h := itt c15 h
        refine G_bipush F (v := (-2 : Int32)) dX7_fastest_89 (by decide) ?_
        refine G_goto F (tgt := 95) dX7_fastest_91 (by decide) ?_
        cases h
        exact G_iret F rfl (Nat.le_refl _) (Nat.le_refl _) rfl dX7_fastest_95
    have KB3 : ∀ s o3, fX7_fastest_L17 a0 a1 a2 s = some o3 → (∀ s', o3 = Sum.inl s' → (fun (s : (Int32 × Int32 × Hp)) => match s with | (s3_3, s4_3, m3) => G X cx 7 (Qm X cx (some (.inl rv)) m_ nx 0 0) (0) (0) m3 (nx) [some (.inr a0), some (.inl a1), some (.inl a2), some (.inl s3_3), some (.inl s4_3), none, none] [] 17) s') → (∀ q, o3 = Sum.inr q → q = r3) → (fun (s : (Int32 × Int32 × Hp)) => match s with | (s3_3, s4_3, m3) => G X cx 7 (Qm X cx (some (.inl rv)) m_ nx 0 0) (0) (0) m3 (nx) [some (.inr a0), some (.inl a1), some (.inl a2), some (.inl s3_3), some (.inl s4_3), none, none] [] 17) s := by
      intro s o3 h hP3 hE3
      obtain ⟨s3_3, s4_3, m3⟩ := s
      try dsimp only at hP3 hE3 ⊢
      refine G_iload F dX7_fastest_17 rfl ?_
      refine G_aload_n F dX7_fastest_19 rfl ?_
      obtain ⟨v4, e_v4, h⟩ := bnd h
      refine G_getI F okX7 (f := 14) (by decide) q1238 rfl dX7_fastest_20 e_v4 ?_
      refine G_icmp_ge F (tgt := 82) dX7_fastest_23 (by decide) (fun c5 => ?_) (fun c5 => ?_)
      · have h := itt c5 h
        cases h
        exact G_sub F (L2 := [none, none, none, some (.inl s3_3), none, none, none]) ⟨rfl, trivial⟩ (KE3 _ _ (hE3 _ rfl))
      · have h := itf c5 h
        refine G_aload_n F dX7_fastest_26 rfl ?_
        refine G_iload F dX7_fastest_27 rfl ?_
        refine G_iload_n F dX7_fastest_29 rfl ?_
        obtain ⟨v6, e_v6, h⟩ := bnd h
        obtain ⟨hc_v6, e_v6⟩ := hp_on_of e_v6
        refine G_callVv F (As := [.inl s4_3, .inl a1]) (st := []) (metX7_leavesFrom X e_v6) hc_v6 rfl rfl (lw_V q1676 q1678 qs85 q109 q1679) hdfX7_leavesFrom ⟨by omega, by decide⟩ rfl (Nat.le_of_ble_eq_true rfl) ⟨by omega, by omega⟩ dX7_fastest_30 ?_
        refine G_if_ne F (tgt := 39) dX7_fastest_33 (by decide) (fun c7 => ?_) (fun c7 => ?_)
        · have h := itf c7 h
          refine G_aload_n F dX7_fastest_39 rfl ?_
          refine G_iload F dX7_fastest_40 rfl ?_
          refine G_iload_n F dX7_fastest_42 rfl ?_
          obtain ⟨v8, e_v8, h⟩ := bnd h
          obtain ⟨hc_v8, e_v8⟩ := hp_on_of e_v8
          refine G_callVv F (As := [.inl s4_3, .inl a1]) (st := []) (metX7_minuteAt X e_v8) hc_v8 rfl rfl (lw_V q1684 q1686 qs86 q109 q1687) hdfX7_minuteAt ⟨by omega, by decide⟩ rfl (Nat.le_of_ble_eq_true rfl) ⟨by omega, by omega⟩ dX7_fastest_43 ?_
          refine G_istore F (L2 := [some (.inr a0), some (.inl a1), some (.inl a2), some (.inl s3_3), some (.inl s4_3), some (.inl v8), none]) dX7_fastest_46 (by decide) rfl ?_
          refine G_aload_n F dX7_fastest_48 rfl ?_
          refine G_iload_n F dX7_fastest_49 rfl ?_
          refine G_iload_n F dX7_fastest_50 rfl ?_
          refine G_iload F dX7_fastest_51 rfl ?_
          obtain ⟨⟨v9, m10⟩, e_v9, h⟩ := bnd h
          obtain ⟨hc_v9, e_v9⟩ := hp_on_of e_v9
          refine G_callVv F (As := [.inl a1, .inl a2, .inl v8]) (st := []) (metX7_soonest X e_v9) hc_v9 rfl rfl (lw_V q1659 q1661 qs82 q109 q1662) hdfX7_soonest ⟨by omega, by decide⟩ rfl (Nat.le_of_ble_eq_true rfl) ⟨by omega, by omega⟩ dX7_fastest_53 ?_
          refine G_istore F (L2 := [some (.inr a0), some (.inl a1), some (.inl a2), some (.inl s3_3), some (.inl s4_3), some (.inl v8), some (.inl v9)]) dX7_fastest_56 (by decide) rfl ?_
          refine G_iload F dX7_fastest_58 rfl ?_
          refine G_ldcw F q1667 dX7_fastest_60 ?_
          refine G_icmp_eq F (tgt := 76) dX7_fastest_63 (by decide) (fun c11 => ?_) (fun c11 => ?_)
          · have h := itt c11 h
            refine G_iinc F (v := (s4_3 + (1 : Int32))) (L2 := [some (.inr a0), some (.inl a1), some (.inl a2), some (.inl s3_3), some (.inl (s4_3 + (1 : Int32))), some (.inl v8), some (.inl v9)]) dX7_fastest_76 (by decide) rfl rfl rfl ?_
            refine G_goto F (tgt := 17) dX7_fastest_79 (by decide) ?_
            cases h
            exact G_sub F (L2 := [some (.inr a0), some (.inl a1), some (.inl a2), some (.inl s3_3), some (.inl (s4_3 + (1 : Int32))), none, none]) ⟨rfl, ⟨rfl, ⟨rfl, ⟨rfl, ⟨rfl, trivial⟩⟩⟩⟩⟩ (hP3 _ rfl)
          · have h := itf c11 h
            refine G_iload_n F dX7_fastest_66 rfl ?_
            refine G_iload F dX7_fastest_67 rfl ?_
            refine G_iload F dX7_fastest_69 rfl ?_
            refine G_isub F dX7_fastest_71 ?_
            obtain ⟨v12, e_v12, h⟩ := bnd h
            refine G_callSv F (As := [.inl s3_3, .inl (v9 - v8)]) (st := []) (metX7_min X e_v12) (lw_S q1610 q1611 q109 q1612) hdfX7_min ⟨by omega, by decide⟩ rfl (Nat.le_of_ble_eq_true rfl) ⟨by omega, by omega⟩ dX7_fastest_72 ?_
            refine G_istore_n F (L2 := [some (.inr a0), some (.inl a1), some (.inl a2), some (.inl v12), some (.inl s4_3), some (.inl v8), some (.inl v9)]) dX7_fastest_75 (by decide) rfl ?_
            refine G_iinc F (v := (s4_3 + (1 : Int32))) (L2 := [some (.inr a0), some (.inl a1), some (.inl a2), some (.inl v12), some (.inl (s4_3 + (1 : Int32))), some (.inl v8), some (.inl v9)]) dX7_fastest_76 (by decide) rfl rfl rfl ?_
            refine G_goto F (tgt := 17) dX7_fastest_79 (by decide) ?_
            cases h
            exact G_sub F (L2 := [some (.inr a0), some (.inl a1), some (.inl a2), some (.inl v12), some (.inl (s4_3 + (1 : Int32))), none, none]) ⟨rfl, ⟨rfl, ⟨rfl, ⟨rfl, ⟨rfl, trivial⟩⟩⟩⟩⟩ (hP3 _ rfl)
        · have h := itt c7 h
          refine G_goto F (tgt := 76) dX7_fastest_36 (by decide) ?_
          refine G_iinc F (v := (s4_3 + (1 : Int32))) (L2 := [some (.inr a0), some (.inl a1), some (.inl a2), some (.inl s3_3), some (.inl (s4_3 + (1 : Int32))), none, none]) dX7_fastest_76 (by decide) rfl rfl rfl ?_
          refine G_goto F (tgt := 17) dX7_fastest_79 (by decide) ?_
          cases h
          exact G_sub F (L2 := [some (.inr a0), some (.inl a1), some (.inl a2), some (.inl s3_3), some (.inl (s4_3 + (1 : Int32))), none, none]) ⟨rfl, ⟨rfl, ⟨rfl, ⟨rfl, ⟨rfl, trivial⟩⟩⟩⟩⟩ (hP3 _ rfl)
    have hI := iter_ok (fun (s : (Int32 × Int32 × Hp)) => match s with | (s3_3, s4_3, m3) => G X cx 7 (Qm X cx (some (.inl rv)) m_ nx 0 0) (0) (0) m3 (nx) [some (.inr a0), some (.inl a1), some (.inl a2), some (.inl s3_3), some (.inl s4_3), none, none] [] 17) (fun q => q = r3) KB3 _ _ _ hr3 rfl
    exact G_sub F (L2 := [some (.inr a0), some (.inl a1), some (.inl a2), some (.inl (1000000 : Int32)), some (.inl (0 : Int32)), none, none]) ⟨rfl, ⟨rfl, ⟨rfl, ⟨rfl, ⟨rfl, trivial⟩⟩⟩⟩⟩ hI
  · have h := itt c2 h
    refine G_iconst F (v := (-1 : Int32)) dX7_fastest_8 (by decide) ?_
    cases h
    exact G_iret F rfl (Nat.le_refl _) (Nat.le_refl _) rfl dX7_fastest_9

theorem metX7_laysBest (X : Gx) {m : Hp} {nx : Nat} {a0 : Option Nat} {a1 : Int32} {a2 : Int32} {rv : Int32} {m_ : Hp} (h : fX7_laysBest m a0 a1 a2 = some (rv, m_)) : Con X (6) yX7_laysBest cX7_laysBest 8 ((Option.some FieldType.int)) [.inr a0, .inl a1, .inl a2] m nx (some (.inl rv)) m_ 0 0 := by
  refine Con.of (own := RX7) (nm := "laysBest") (L := [some (.inr a0), some (.inl a1), some (.inl a2), none, none, none, none, none]) (by decide +kernel) rfl rfl (Nat.le_of_ble_eq_true rfl) (ent_of 5 rfl) ?_
  intro cx F
  refine G_iconst F (v := (0 : Int32)) dX7_laysBest_0 (by decide) ?_
  refine G_istore_n F (L2 := [some (.inr a0), some (.inl a1), some (.inl a2), some (.inl (0 : Int32)), none, none, none, none]) dX7_laysBest_1 (by decide) rfl ?_
  refine G_ldcw F q1667 dX7_laysBest_2 ?_
  refine G_istore F (L2 := [some (.inr a0), some (.inl a1), some (.inl a2), some (.inl (0 : Int32)), some (.inl (1000000 : Int32)), none, none, none]) dX7_laysBest_5 (by decide) rfl ?_
  refine G_aload_n F dX7_laysBest_7 rfl ?_
  obtain ⟨v1, e_v1, h⟩ := bnd h
  refine G_getI F okX7 (f := 15) (by decide) q1239 rfl dX7_laysBest_8 e_v1 ?_
  refine G_iconst F (v := (1 : Int32)) dX7_laysBest_11 (by decide) ?_
  refine G_isub F dX7_laysBest_12 ?_
  refine G_istore F (L2 := [some (.inr a0), some (.inl a1), some (.inl a2), some (.inl (0 : Int32)), some (.inl (1000000 : Int32)), some (.inl (v1 - (1 : Int32))), none, none]) dX7_laysBest_13 (by decide) rfl ?_
  obtain ⟨r2, hr2, h⟩ := bnd h
  have KE2 : ∀ (v22 : Int32) (m23 : Hp), (v22, m23) = r2 → G X cx 8 (Qm X cx (some (.inl rv)) m_ nx 0 0) (0) (0) m23 (nx) [none, none, none, some (.inl v22), none, none, none, none] [] 116 := by
    intro v22 m23 hq
    subst hq
    try dsimp only at h
    refine G_iload_n F dX7_laysBest_116 rfl ?_
    cases h
    exact G_iret F rfl (Nat.le_refl _) (Nat.le_refl _) rfl dX7_laysBest_117
  have KB2 : ∀ s o2, fX7_laysBest_L15 a0 a1 a2 s = some o2 → (∀ s', o2 = Sum.inl s' → (fun (s : (Int32 × Int32 × Int32 × Hp)) => match s with | (s3_2, s4_2, s5_2, m2) => G X cx 8 (Qm X cx (some (.inl rv)) m_ nx 0 0) (0) (0) m2 (nx) [some (.inr a0), some (.inl a1), some (.inl a2), some (.inl s3_2), some (.inl s4_2), some (.inl s5_2), none, none] [] 15) s') → (∀ q, o2 = Sum.inr q → q = r2) → (fun (s : (Int32 × Int32 × Int32 × Hp)) => match s with | (s3_2, s4_2, s5_2, m2) => G X cx 8 (Qm X cx (some (.inl rv)) m_ nx 0 0) (0) (0) m2 (nx) [some (.inr a0), some (.inl a1), some (.inl a2), some (.inl s3_2), some (.inl s4_2), some (.inl s5_2), none, none] [] 15) s := by
    intro s o2 h hP2 hE2
    obtain ⟨s3_2, s4_2, s5_2, m2⟩ := s
    try dsimp only at hP2 hE2 ⊢
    refine G_iload F dX7_laysBest_15 rfl ?_
    refine G_if_lt F (tgt := 116) dX7_laysBest_17 (by decide) (fun c3 => ?_) (fun c3 => ?_)
    · have h := itt c3 h
      cases h
      exact G_sub F (L2 := [none, none, none, some (.inl s3_2), none, none, none, none]) ⟨rfl, trivial⟩ (KE2 _ _ (hE2 _ rfl))
    · have h := itf c3 h
      refine G_aload_n F dX7_laysBest_20 rfl ?_
      obtain ⟨v4, e_v4, h⟩ := bnd h
      refine G_getR F okX7 (f := 10) (by decide) q1234 rfl dX7_laysBest_21 e_v4 ?_
      refine G_iload F dX7_laysBest_24 rfl ?_
      obtain ⟨v5, e_v5, h⟩ := bnd h
      refine G_iald F dX7_laysBest_26 e_v5 ?_
      refine G_istore F (L2 := [some (.inr a0), some (.inl a1), some (.inl a2), some (.inl s3_2), some (.inl s4_2), some (.inl s5_2), some (.inl v5), none]) dX7_laysBest_27 (by decide) rfl ?_
      refine G_aload_n F dX7_laysBest_29 rfl ?_
      obtain ⟨v6, e_v6, h⟩ := bnd h
      refine G_getR F okX7 (f := 7) (by decide) q1231 rfl dX7_laysBest_30 e_v6 ?_
      refine G_iload F dX7_laysBest_33 rfl ?_
      obtain ⟨v7, e_v7, h⟩ := bnd h
      refine G_iald F dX7_laysBest_35 e_v7 ?_
      refine G_iload_n F dX7_laysBest_36 rfl ?_
      refine G_icmp_ne F (tgt := 110) dX7_laysBest_37 (by decide) (fun c8 => ?_) (fun c8 => ?_)
      · have h := itf c8 h
        refine G_iinc F (v := (s5_2 + (-1 : Int32))) (L2 := [some (.inr a0), some (.inl a1), some (.inl a2), some (.inl s3_2), some (.inl s4_2), some (.inl (s5_2 + (-1 : Int32))), some (.inl v5), none]) dX7_laysBest_110 (by decide) rfl rfl rfl ?_
        refine G_goto F (tgt := 15) dX7_laysBest_113 (by decide) ?_
        cases h
        exact G_sub F (L2 := [some (.inr a0), some (.inl a1), some (.inl a2), some (.inl s3_2), some (.inl s4_2), some (.inl (s5_2 + (-1 : Int32))), none, none]) ⟨rfl, ⟨rfl, ⟨rfl, ⟨rfl, ⟨rfl, ⟨rfl, trivial⟩⟩⟩⟩⟩⟩ (hP2 _ rfl)
      · have h := itt c8 h
        refine G_aload_n F dX7_laysBest_40 rfl ?_
        refine G_iload F dX7_laysBest_41 rfl ?_
        refine G_bipush F (v := (8 : Int32)) dX7_laysBest_43 (by decide) ?_
        refine G_idiv F (by decide) dX7_laysBest_45 ?_
        refine G_iload_n F dX7_laysBest_46 rfl ?_
        obtain ⟨v9, e_v9, h⟩ := bnd h
        obtain ⟨hc_v9, e_v9⟩ := hp_on_of e_v9
        refine G_callVv F (As := [.inl (v5 / (8 : Int32)), .inl a1]) (st := []) (metX7_leavesFrom X e_v9) hc_v9 rfl rfl (lw_V q1676 q1678 qs85 q109 q1679) hdfX7_leavesFrom ⟨by omega, by decide⟩ rfl (Nat.le_of_ble_eq_true rfl) ⟨by omega, by omega⟩ dX7_laysBest_47 ?_
        refine G_if_ne F (tgt := 56) dX7_laysBest_50 (by decide) (fun c10 => ?_) (fun c10 => ?_)
        · have h := itf c10 h
          refine G_aload_n F dX7_laysBest_56 rfl ?_
          refine G_iload_n F dX7_laysBest_57 rfl ?_
          refine G_iload_n F dX7_laysBest_58 rfl ?_
          refine G_aload_n F dX7_laysBest_59 rfl ?_
          obtain ⟨v11, e_v11, h⟩ := bnd h
          refine G_getR F okX7 (f := 8) (by decide) q1232 rfl dX7_laysBest_60 e_v11 ?_
          refine G_iload F dX7_laysBest_63 rfl ?_
          obtain ⟨v12, e_v12, h⟩ := bnd h
          refine G_iald F dX7_laysBest_65 e_v12 ?_
          obtain ⟨⟨v13, m14⟩, e_v13, h⟩ := bnd h
          obtain ⟨hc_v13, e_v13⟩ := hp_on_of e_v13
          refine G_callVv F (As := [.inl a1, .inl a2, .inl v12]) (st := []) (metX7_soonest X e_v13) hc_v13 rfl rfl (lw_V q1659 q1661 qs82 q109 q1662) hdfX7_soonest ⟨by omega, by decide⟩ rfl (Nat.le_of_ble_eq_true rfl) ⟨by omega, by omega⟩ dX7_laysBest_66 ?_
          refine G_istore F (L2 := [some (.inr a0), some (.inl a1), some (.inl a2), some (.inl s3_2), some (.inl s4_2), some (.inl s5_2), some (.inl v5), some (.inl v13)]) dX7_laysBest_69 (by decide) rfl ?_
          refine G_iload F dX7_laysBest_71 rfl ?_
          refine G_iload F dX7_laysBest_73 rfl ?_
          refine G_icmp_lt F (tgt := 81) dX7_laysBest_75 (by decide) (fun c15 => ?_) (fun c15 => ?_)
          · have h := itt c15 h
            refine G_iload F dX7_laysBest_81 rfl ?_
            refine G_istore F (L2 := [some (.inr a0), some (.inl a1), some (.inl a2), some (.inl s3_2), some (.inl v13), some (.inl s5_2), some (.inl v5), some (.inl v13)]) dX7_laysBest_83 (by decide) rfl ?_
            refine G_aload_n F dX7_laysBest_85 rfl ?_
            obtain ⟨v16, e_v16, h⟩ := bnd h
            refine G_getR F okX7 (f := 57) (by decide) q1281 rfl dX7_laysBest_86 e_v16 ?_
            refine G_iload_n F dX7_laysBest_89 rfl ?_
            refine G_aload_n F dX7_laysBest_90 rfl ?_
            obtain ⟨v17, e_v17, h⟩ := bnd h
            refine G_getR F okX7 (f := 8) (by decide) q1232 rfl dX7_laysBest_91 e_v17 ?_
            refine G_iload F dX7_laysBest_94 rfl ?_
            obtain ⟨v18, e_v18, h⟩ := bnd h
            refine G_iald F dX7_laysBest_96 e_v18 ?_
            obtain ⟨m19, e_m19, h⟩ := bnd h
            refine G_iast F dX7_laysBest_97 e_m19 ?_
            refine G_aload_n F dX7_laysBest_98 rfl ?_
            obtain ⟨v20, e_v20, h⟩ := bnd h
            refine G_getR F okX7 (f := 58) (by decide) q1282 rfl dX7_laysBest_99 e_v20 ?_
            refine G_iload_n F dX7_laysBest_102 rfl ?_
            refine G_iload F dX7_laysBest_103 rfl ?_
            obtain ⟨m21, e_m21, h⟩ := bnd h
            refine G_iast F dX7_laysBest_105 e_m21 ?_
            refine G_iload_n F dX7_laysBest_106 rfl ?_
            refine G_iconst F (v := (1 : Int32)) dX7_laysBest_107 (by decide) ?_
            refine G_iadd F dX7_laysBest_108 ?_
            refine G_istore_n F (L2 := [some (.inr a0), some (.inl a1), some (.inl a2), some (.inl (s3_2 + (1 : Int32))), some (.inl v13), some (.inl s5_2), some (.inl v5), some (.inl v13)]) dX7_laysBest_109 (by decide) rfl ?_
            refine G_iinc F (v := (s5_2 + (-1 : Int32))) (L2 := [some (.inr a0), some (.inl a1), some (.inl a2), some (.inl (s3_2 + (1 : Int32))), some (.inl v13), some (.inl (s5_2 + (-1 : Int32))), some (.inl v5), some (.inl v13)]) dX7_laysBest_110 (by decide) rfl rfl rfl ?_
            refine G_goto F (tgt := 15) dX7_laysBest_113 (by decide) ?_
            cases h
            exact G_sub F (L2 := [some (.inr a0), some (.inl a1), some (.inl a2), some (.inl (s3_2 + (1 : Int32))), some (.inl v13), some (.inl (s5_2 + (-1 : Int32))), none, none]) ⟨rfl, ⟨rfl, ⟨rfl, ⟨rfl, ⟨rfl, ⟨rfl, trivial⟩⟩⟩⟩⟩⟩ (hP2 _ rfl)
          · have h := itf c15 h
            refine G_goto F (tgt := 110) dX7_laysBest_78 (by decide) ?_
            refine G_iinc F (v := (s5_2 + (-1 : Int32))) (L2 := [some (.inr a0), some (.inl a1), some (.inl a2), some (.inl s3_2), some (.inl s4_2), some (.inl (s5_2 + (-1 : Int32))), some (.inl v5), some (.inl v13)]) dX7_laysBest_110 (by decide) rfl rfl rfl ?_
            refine G_goto F (tgt := 15) dX7_laysBest_113 (by decide) ?_
            cases h
            exact G_sub F (L2 := [some (.inr a0), some (.inl a1), some (.inl a2), some (.inl s3_2), some (.inl s4_2), some (.inl (s5_2 + (-1 : Int32))), none, none]) ⟨rfl, ⟨rfl, ⟨rfl, ⟨rfl, ⟨rfl, ⟨rfl, trivial⟩⟩⟩⟩⟩⟩ (hP2 _ rfl)
        · have h := itt c10 h
          refine G_goto F (tgt := 110) dX7_laysBest_53 (by decide) ?_
          refine G_iinc F (v := (s5_2 + (-1 : Int32))) (L2 := [some (.inr a0), some (.inl a1), some (.inl a2), some (.inl s3_2), some (.inl s4_2), some (.inl (s5_2 + (-1 : Int32))), some (.inl v5), none]) dX7_laysBest_110 (by decide) rfl rfl rfl ?_
          refine G_goto F (tgt := 15) dX7_laysBest_113 (by decide) ?_
          cases h
          exact G_sub F (L2 := [some (.inr a0), some (.inl a1), some (.inl a2), some (.inl s3_2), some (.inl s4_2), some (.inl (s5_2 + (-1 : Int32))), none, none]) ⟨rfl, ⟨rfl, ⟨rfl, ⟨rfl, ⟨rfl, ⟨rfl, trivial⟩⟩⟩⟩⟩⟩ (hP2 _ rfl)
  have hI := iter_ok (fun (s : (Int32 × Int32 × Int32 × Hp)) => match s with | (s3_2, s4_2, s5_2, m2) => G X cx 8 (Qm X cx (some (.inl rv)) m_ nx 0 0) (0) (0) m2 (nx) [some (.inr a0), some (.inl a1), some (.inl a2), some (.inl s3_2), some (.inl s4_2), some (.inl s5_2), none, none] [] 15) (fun q => q = r2) KB2 _ _ _ hr2 rfl
  exact G_sub F (L2 := [some (.inr a0), some (.inl a1), some (.inl a2), some (.inl (0 : Int32)), some (.inl (1000000 : Int32)), some (.inl (v1 - (1 : Int32))), none, none]) ⟨rfl, ⟨rfl, ⟨rfl, ⟨rfl, ⟨rfl, ⟨rfl, trivial⟩⟩⟩⟩⟩⟩ hI

theorem metX7_best (X : Gx) {m : Hp} {nx : Nat} {a0 : Option Nat} {a1 : Int32} {a2 : Int32} {a3 : Int32} {rv : Int32} {m_ : Hp} (h : fX7_best m a0 a1 a2 a3 = some (rv, m_)) : Con X (7) yX7_best cX7_best 6 ((Option.some FieldType.int)) [.inr a0, .inl a1, .inl a2, .inl a3] m nx (some (.inl rv)) m_ 0 0 := by
  refine Con.of (own := RX7) (nm := "best") (L := [some (.inr a0), some (.inl a1), some (.inl a2), some (.inl a3), none, none]) (by decide +kernel) rfl rfl (Nat.le_of_ble_eq_true rfl) (ent_of 2 rfl) ?_
  intro cx F
  refine G_iload_n F dX7_best_0 rfl ?_
  refine G_iload_n F dX7_best_1 rfl ?_
  obtain ⟨v1, e_v1, h⟩ := bnd h
  refine G_callSv F (As := [.inl a1, .inl a2]) (st := []) (metX7_areTwo X e_v1) (lw_S q1430 q1431 q109 q1432) hdfX7_areTwo ⟨by omega, by decide⟩ rfl (Nat.le_of_ble_eq_true rfl) ⟨by omega, by omega⟩ dX7_best_2 ?_
  refine G_if_eq F (tgt := 40) dX7_best_5 (by decide) (fun c2 => ?_) (fun c2 => ?_)
  · have h := itt c2 h
    refine G_iconst F (v := (-1 : Int32)) dX7_best_40 (by decide) ?_
    cases h
    exact G_iret F rfl (Nat.le_refl _) (Nat.le_refl _) rfl dX7_best_41
  · have h := itf c2 h
    refine G_iload_n F dX7_best_8 rfl ?_
    refine G_bipush F (v := (100 : Int32)) dX7_best_9 (by decide) ?_
    obtain ⟨p3, hp3, h⟩ := bnd h
    have K3 : ∀ (_ : Unit), Sum.inl () = p3 → G X cx 6 (Qm X cx (some (.inl rv)) m_ nx 0 0) (0) (0) m (nx) [some (.inr a0), some (.inl a1), some (.inl a2), some (.inl a3), none, none] [] 42 := by
      intro _ hq
      subst hq
      try dsimp only at h
      refine G_aload_n F dX7_best_42 rfl ?_
      refine G_iload_n F dX7_best_43 rfl ?_
      refine G_iload_n F dX7_best_44 rfl ?_
      obtain ⟨⟨v4, m5⟩, e_v4, h⟩ := bnd h
      obtain ⟨hc_v4, e_v4⟩ := hp_on_of e_v4
      refine G_callVv F (As := [.inl a1, .inl a2]) (st := []) (metX7_laysBest X e_v4) hc_v4 rfl rfl (lw_V q1692 q1694 qs87 q109 q1695) hdfX7_laysBest ⟨by omega, by decide⟩ rfl (Nat.le_of_ble_eq_true rfl) ⟨by omega, by omega⟩ dX7_best_45 ?_
      refine G_istore F (L2 := [some (.inr a0), some (.inl a1), some (.inl a2), some (.inl a3), some (.inl v4), none]) dX7_best_48 (by decide) rfl ?_
      refine G_iload_n F dX7_best_50 rfl ?_
      refine G_bipush F (v := (100 : Int32)) dX7_best_51 (by decide) ?_
      refine G_icmp_ne F (tgt := 59) dX7_best_53 (by decide) (fun c6 => ?_) (fun c6 => ?_)
      · have h := itf c6 h
        refine G_iload_n F dX7_best_59 rfl ?_
        refine G_sipush F (v := (1000 : Int32)) dX7_best_60 (by decide) ?_
        refine G_irem F (by decide) dX7_best_63 ?_
        refine G_istore F (L2 := [some (.inr a0), some (.inl a1), some (.inl a2), some (.inl a3), some (.inl v4), some (.inl (jrem a3 (1000 : Int32)))]) dX7_best_64 (by decide) rfl ?_
        refine G_iload F dX7_best_66 rfl ?_
        refine G_iload F dX7_best_68 rfl ?_
        refine G_icmp_lt F (tgt := 76) dX7_best_70 (by decide) (fun c7 => ?_) (fun c7 => ?_)
        · have h := itt c7 h
          refine G_iload_n F dX7_best_76 rfl ?_
          refine G_sipush F (v := (2000 : Int32)) dX7_best_77 (by decide) ?_
          refine G_icmp_ge F (tgt := 98) dX7_best_80 (by decide) (fun c8 => ?_) (fun c8 => ?_)
          · have h := itt c8 h
            refine G_aload_n F dX7_best_98 rfl ?_
            obtain ⟨v9, e_v9, h⟩ := bnd h
            refine G_getR F okX7 (f := 58) (by decide) q1282 rfl dX7_best_99 e_v9 ?_
            refine G_iload F dX7_best_102 rfl ?_
            refine G_iconst F (v := (1 : Int32)) dX7_best_104 (by decide) ?_
            refine G_isub F dX7_best_105 ?_
            refine G_iload F dX7_best_106 rfl ?_
            refine G_isub F dX7_best_108 ?_
            obtain ⟨v10, e_v10, h⟩ := bnd h
            refine G_iald F dX7_best_109 e_v10 ?_
            cases h
            exact G_iret F rfl (Nat.le_refl _) (Nat.le_refl _) rfl dX7_best_110
          · have h := itf c8 h
            refine G_aload_n F dX7_best_83 rfl ?_
            obtain ⟨v11, e_v11, h⟩ := bnd h
            refine G_getR F okX7 (f := 57) (by decide) q1281 rfl dX7_best_84 e_v11 ?_
            refine G_iload F dX7_best_87 rfl ?_
            refine G_iconst F (v := (1 : Int32)) dX7_best_89 (by decide) ?_
            refine G_isub F dX7_best_90 ?_
            refine G_iload F dX7_best_91 rfl ?_
            refine G_isub F dX7_best_93 ?_
            obtain ⟨v12, e_v12, h⟩ := bnd h
            refine G_iald F dX7_best_94 e_v12 ?_
            refine G_goto F (tgt := 110) dX7_best_95 (by decide) ?_
            cases h
            exact G_iret F rfl (Nat.le_refl _) (Nat.le_refl _) rfl dX7_best_110
        · have h := itf c7 h
          refine G_bipush F (v := (-4 : Int32)) dX7_best_73 (by decide) ?_
          cases h
          exact G_iret F rfl (Nat.le_refl _) (Nat.le_refl _) rfl dX7_best_75
      · have h := itt c6 h
        refine G_iload F dX7_best_56 rfl ?_
        cases h
        exact G_iret F rfl (Nat.le_refl _) (Nat.le_refl _) rfl dX7_best_58
    have K3o : ∀ o, Sum.inr o = p3 → some o = some (rv, m_) := by
      intro o hq
      subst hq
      exact h
    have h := hp3
    clear hp3
    refine G_icmp_eq F (tgt := 42) dX7_best_11 (by decide) (fun c13 => ?_) (fun c13 => ?_)
    · have h := itt c13 h
      have hq_ := Option.some.inj h
      exact G_sub F (L2 := [some (.inr a0), some (.inl a1), some (.inl a2), some (.inl a3), none, none]) ⟨rfl, ⟨rfl, ⟨rfl, ⟨rfl, trivial⟩⟩⟩⟩ (K3 () hq_)
    · have h := itf c13 h
      refine G_iload_n F dX7_best_14 rfl ?_
      refine G_sipush F (v := (1000 : Int32)) dX7_best_15 (by decide) ?_
      refine G_sipush F (v := (1047 : Int32)) dX7_best_18 (by decide) ?_
      obtain ⟨v14, e_v14, h⟩ := bnd h
      refine G_callSv F (As := [.inl a3, .inl (1000 : Int32), .inl (1047 : Int32)]) (st := []) (metX7_in X e_v14) (lw_S q1427 q1428 q109 q1429) hdfX7_in ⟨by omega, by decide⟩ rfl (Nat.le_of_ble_eq_true rfl) ⟨by omega, by omega⟩ dX7_best_21 ?_
      refine G_if_ne F (tgt := 42) dX7_best_24 (by decide) (fun c15 => ?_) (fun c15 => ?_)
      · have h := itf c15 h
        have hq_ := Option.some.inj h
        exact G_sub F (L2 := [some (.inr a0), some (.inl a1), some (.inl a2), some (.inl a3), none, none]) ⟨rfl, ⟨rfl, ⟨rfl, ⟨rfl, trivial⟩⟩⟩⟩ (K3 () hq_)
      · have h := itt c15 h
        refine G_iload_n F dX7_best_27 rfl ?_
        refine G_sipush F (v := (2000 : Int32)) dX7_best_28 (by decide) ?_
        refine G_sipush F (v := (2047 : Int32)) dX7_best_31 (by decide) ?_
        obtain ⟨v16, e_v16, h⟩ := bnd h
        refine G_callSv F (As := [.inl a3, .inl (2000 : Int32), .inl (2047 : Int32)]) (st := []) (metX7_in X e_v16) (lw_S q1427 q1428 q109 q1429) hdfX7_in ⟨by omega, by decide⟩ rfl (Nat.le_of_ble_eq_true rfl) ⟨by omega, by omega⟩ dX7_best_34 ?_
        refine G_if_ne F (tgt := 42) dX7_best_37 (by decide) (fun c17 => ?_) (fun c17 => ?_)
        · have h := itf c17 h
          have hq_ := Option.some.inj h
          exact G_sub F (L2 := [some (.inr a0), some (.inl a1), some (.inl a2), some (.inl a3), none, none]) ⟨rfl, ⟨rfl, ⟨rfl, ⟨rfl, trivial⟩⟩⟩⟩ (K3 () hq_)
        · have h := itt c17 h
          refine G_iconst F (v := (-1 : Int32)) dX7_best_40 (by decide) ?_
          have hq_ := Option.some.inj h
          have h := K3o _ hq_
          cases h
          exact G_iret F rfl (Nat.le_refl _) (Nat.le_refl _) rfl dX7_best_41

theorem metX7_comeTo (X : Gx) {m : Hp} {nx : Nat} {a0 : Option Nat} {a1 : Int32} {a2 : Int32} {rv : Int32} {m_ : Hp} (h : fX7_comeTo m a0 a1 a2 = some (rv, m_)) : Con X (6) yX7_comeTo cX7_comeTo 5 ((Option.some FieldType.int)) [.inr a0, .inl a1, .inl a2] m nx (some (.inl rv)) m_ 0 0 := by
  refine Con.of (own := RX7) (nm := "comeTo") (L := [some (.inr a0), some (.inl a1), some (.inl a2), none, none]) (by decide +kernel) rfl rfl (Nat.le_of_ble_eq_true rfl) (ent_of 2 rfl) ?_
  intro cx F
  refine G_iload_n F dX7_comeTo_0 rfl ?_
  obtain ⟨v1, e_v1, h⟩ := bnd h
  refine G_callSv F (As := [.inl a1]) (st := []) (metX7_isStation X e_v1) (lw_S q1433 q1434 q109 q1435) hdfX7_isStation ⟨by omega, by decide⟩ rfl (Nat.le_of_ble_eq_true rfl) ⟨by omega, by omega⟩ dX7_comeTo_1 ?_
  refine G_if_eq F (tgt := 18) dX7_comeTo_4 (by decide) (fun c2 => ?_) (fun c2 => ?_)
  · have h := itt c2 h
    refine G_iconst F (v := (-1 : Int32)) dX7_comeTo_18 (by decide) ?_
    cases h
    exact G_iret F rfl (Nat.le_refl _) (Nat.le_refl _) rfl dX7_comeTo_19
  · have h := itf c2 h
    refine G_iload_n F dX7_comeTo_7 rfl ?_
    refine G_iconst F (v := (0 : Int32)) dX7_comeTo_8 (by decide) ?_
    refine G_sipush F (v := (1439 : Int32)) dX7_comeTo_9 (by decide) ?_
    obtain ⟨v3, e_v3, h⟩ := bnd h
    refine G_callSv F (As := [.inl a2, .inl (0 : Int32), .inl (1439 : Int32)]) (st := []) (metX7_in X e_v3) (lw_S q1427 q1428 q109 q1429) hdfX7_in ⟨by omega, by decide⟩ rfl (Nat.le_of_ble_eq_true rfl) ⟨by omega, by omega⟩ dX7_comeTo_12 ?_
    refine G_if_ne F (tgt := 20) dX7_comeTo_15 (by decide) (fun c4 => ?_) (fun c4 => ?_)
    · have h := itf c4 h
      refine G_aload_n F dX7_comeTo_20 rfl ?_
      refine G_iload_n F dX7_comeTo_21 rfl ?_
      refine G_iload_n F dX7_comeTo_22 rfl ?_
      refine G_iload_n F dX7_comeTo_23 rfl ?_
      obtain ⟨⟨v5, m6⟩, e_v5, h⟩ := bnd h
      obtain ⟨hc_v5, e_v5⟩ := hp_on_of e_v5
      refine G_callVv F (As := [.inl a1, .inl a1, .inl a2]) (st := []) (metX7_soonest X e_v5) hc_v5 rfl rfl (lw_V q1659 q1661 qs82 q109 q1662) hdfX7_soonest ⟨by omega, by decide⟩ rfl (Nat.le_of_ble_eq_true rfl) ⟨by omega, by omega⟩ dX7_comeTo_24 ?_
      refine G_pop F dX7_comeTo_27 ?_
      refine G_iconst F (v := (1 : Int32)) dX7_comeTo_28 (by decide) ?_
      refine G_iload_n F dX7_comeTo_29 rfl ?_
      refine G_ishl F dX7_comeTo_30 ?_
      refine G_istore_n F (L2 := [some (.inr a0), some (.inl a1), some (.inl a2), some (.inl (jshl (1 : Int32) a1)), none]) dX7_comeTo_31 (by decide) rfl ?_
      refine G_iconst F (v := (0 : Int32)) dX7_comeTo_32 (by decide) ?_
      refine G_istore F (L2 := [some (.inr a0), some (.inl a1), some (.inl a2), some (.inl (jshl (1 : Int32) a1)), some (.inl (0 : Int32))]) dX7_comeTo_33 (by decide) rfl ?_
      obtain ⟨r7, hr7, h⟩ := bnd h
      have KE7 : ∀ (v12 : Int32), v12 = r7 → G X cx 5 (Qm X cx (some (.inl rv)) m_ nx 0 0) (0) (0) m6 (nx) [none, none, none, some (.inl v12), none] [] 68 := by
        intro v12 hq
        subst hq
        try dsimp only at h
        refine G_iload_n F dX7_comeTo_68 rfl ?_
        cases h
        exact G_iret F rfl (Nat.le_refl _) (Nat.le_refl _) rfl dX7_comeTo_69
      have KB7 : ∀ s o7, fX7_comeTo_L35 m6 a0 s = some o7 → (∀ s', o7 = Sum.inl s' → (fun (s : (Int32 × Int32)) => match s with | (s3_7, s4_7) => G X cx 5 (Qm X cx (some (.inl rv)) m_ nx 0 0) (0) (0) m6 (nx) [some (.inr a0), none, none, some (.inl s3_7), some (.inl s4_7)] [] 35) s') → (∀ q, o7 = Sum.inr q → q = r7) → (fun (s : (Int32 × Int32)) => match s with | (s3_7, s4_7) => G X cx 5 (Qm X cx (some (.inl rv)) m_ nx 0 0) (0) (0) m6 (nx) [some (.inr a0), none, none, some (.inl s3_7), some (.inl s4_7)] [] 35) s := by
        intro s o7 h hP7 hE7
        obtain ⟨s3_7, s4_7⟩ := s
        try dsimp only at hP7 hE7 ⊢
        refine G_iload F dX7_comeTo_35 rfl ?_
        refine G_bipush F (v := (10 : Int32)) dX7_comeTo_37 (by decide) ?_
        refine G_icmp_ge F (tgt := 68) dX7_comeTo_39 (by decide) (fun c8 => ?_) (fun c8 => ?_)
        · have h := itt c8 h
          cases h
          exact G_sub F (L2 := [none, none, none, some (.inl s3_7), none]) ⟨rfl, trivial⟩ (KE7 _ (hE7 _ rfl))
        · have h := itf c8 h
          refine G_aload_n F dX7_comeTo_42 rfl ?_
          obtain ⟨v9, e_v9, h⟩ := bnd h
          refine G_getR F okX7 (f := 55) (by decide) q1279 rfl dX7_comeTo_43 e_v9 ?_
          refine G_iload F dX7_comeTo_46 rfl ?_
          obtain ⟨v10, e_v10, h⟩ := bnd h
          refine G_iald F dX7_comeTo_48 e_v10 ?_
          refine G_ldcw F q1667 dX7_comeTo_49 ?_
          refine G_icmp_eq F (tgt := 62) dX7_comeTo_52 (by decide) (fun c11 => ?_) (fun c11 => ?_)
          · have h := itt c11 h
            refine G_iinc F (v := (s4_7 + (1 : Int32))) (L2 := [some (.inr a0), none, none, some (.inl s3_7), some (.inl (s4_7 + (1 : Int32)))]) dX7_comeTo_62 (by decide) rfl rfl rfl ?_
            refine G_goto F (tgt := 35) dX7_comeTo_65 (by decide) ?_
            cases h
            exact G_sub F (L2 := [some (.inr a0), none, none, some (.inl s3_7), some (.inl (s4_7 + (1 : Int32)))]) ⟨rfl, ⟨rfl, ⟨rfl, trivial⟩⟩⟩ (hP7 _ rfl)
          · have h := itf c11 h
            refine G_iload_n F dX7_comeTo_55 rfl ?_
            refine G_iconst F (v := (1 : Int32)) dX7_comeTo_56 (by decide) ?_
            refine G_iload F dX7_comeTo_57 rfl ?_
            refine G_ishl F dX7_comeTo_59 ?_
            refine G_ior F dX7_comeTo_60 ?_
            refine G_istore_n F (L2 := [some (.inr a0), none, none, some (.inl (s3_7 ||| (jshl (1 : Int32) s4_7))), some (.inl s4_7)]) dX7_comeTo_61 (by decide) rfl ?_
            refine G_iinc F (v := (s4_7 + (1 : Int32))) (L2 := [some (.inr a0), none, none, some (.inl (s3_7 ||| (jshl (1 : Int32) s4_7))), some (.inl (s4_7 + (1 : Int32)))]) dX7_comeTo_62 (by decide) rfl rfl rfl ?_
            refine G_goto F (tgt := 35) dX7_comeTo_65 (by decide) ?_
            cases h
            exact G_sub F (L2 := [some (.inr a0), none, none, some (.inl (s3_7 ||| (jshl (1 : Int32) s4_7))), some (.inl (s4_7 + (1 : Int32)))]) ⟨rfl, ⟨rfl, ⟨rfl, trivial⟩⟩⟩ (hP7 _ rfl)
      have hI := iter_ok (fun (s : (Int32 × Int32)) => match s with | (s3_7, s4_7) => G X cx 5 (Qm X cx (some (.inl rv)) m_ nx 0 0) (0) (0) m6 (nx) [some (.inr a0), none, none, some (.inl s3_7), some (.inl s4_7)] [] 35) (fun q => q = r7) KB7 _ _ _ hr7 rfl
      exact G_sub F (L2 := [some (.inr a0), none, none, some (.inl (jshl (1 : Int32) a1)), some (.inl (0 : Int32))]) ⟨rfl, ⟨rfl, ⟨rfl, trivial⟩⟩⟩ hI
    · have h := itt c4 h
      refine G_iconst F (v := (-1 : Int32)) dX7_comeTo_18 (by decide) ?_
      cases h
      exact G_iret F rfl (Nat.le_refl _) (Nat.le_refl _) rfl dX7_comeTo_19

theorem metX7_goesFromTo (X : Gx) {m : Hp} {nx : Nat} {a0 : Option Nat} {a1 : Int32} {a2 : Int32} {a3 : Int32} {rv : Int32} (h : fX7_goesFromTo m a0 a1 a2 a3 = some rv) : Con X (3) yX7_goesFromTo cX7_goesFromTo 4 ((Option.some FieldType.boolean)) [.inr a0, .inl a1, .inl a2, .inl a3] m nx (some (.inl rv)) m 0 0 := by
  refine Con.of (own := RX7) (nm := "goesFromTo") (L := [some (.inr a0), some (.inl a1), some (.inl a2), some (.inl a3)]) (by decide +kernel) rfl rfl (Nat.le_of_ble_eq_true rfl) (ent_of 0 rfl) ?_
  intro cx F
  refine G_aload_n F dX7_goesFromTo_0 rfl ?_
  refine G_iload_n F dX7_goesFromTo_1 rfl ?_
  obtain ⟨v1, e_v1, h⟩ := bnd h
  obtain ⟨hc_v1, e_v1⟩ := hp_on_of e_v1
  refine G_callVv F (As := [.inl a1]) (st := []) (metX7_runs X e_v1) hc_v1 rfl rfl (lw_V q1582 q1584 qs71 q109 q1585) hdfX7_runs ⟨by omega, by decide⟩ rfl (Nat.le_of_ble_eq_true rfl) ⟨by omega, by omega⟩ dX7_goesFromTo_2 ?_
  refine G_if_eq F (tgt := 37) dX7_goesFromTo_5 (by decide) (fun c2 => ?_) (fun c2 => ?_)
  · have h := itt c2 h
    refine G_iconst F (v := (0 : Int32)) dX7_goesFromTo_37 (by decide) ?_
    cases h
    exact G_zret F rfl (Or.inl rfl) (Nat.le_refl _) (Nat.le_refl _) rfl dX7_goesFromTo_38
  · have h := itf c2 h
    refine G_aload_n F dX7_goesFromTo_8 rfl ?_
    refine G_iload_n F dX7_goesFromTo_9 rfl ?_
    refine G_iload_n F dX7_goesFromTo_10 rfl ?_
    obtain ⟨v3, e_v3, h⟩ := bnd h
    obtain ⟨hc_v3, e_v3⟩ := hp_on_of e_v3
    refine G_callVv F (As := [.inl a1, .inl a2]) (st := []) (metX7_stopAt X e_v3) hc_v3 rfl rfl (lw_V q1624 q1626 qs79 q109 q1627) hdfX7_stopAt ⟨by omega, by decide⟩ rfl (Nat.le_of_ble_eq_true rfl) ⟨by omega, by omega⟩ dX7_goesFromTo_11 ?_
    refine G_iconst F (v := (-1 : Int32)) dX7_goesFromTo_14 (by decide) ?_
    refine G_icmp_eq F (tgt := 37) dX7_goesFromTo_15 (by decide) (fun c4 => ?_) (fun c4 => ?_)
    · have h := itt c4 h
      refine G_iconst F (v := (0 : Int32)) dX7_goesFromTo_37 (by decide) ?_
      cases h
      exact G_zret F rfl (Or.inl rfl) (Nat.le_refl _) (Nat.le_refl _) rfl dX7_goesFromTo_38
    · have h := itf c4 h
      refine G_aload_n F dX7_goesFromTo_18 rfl ?_
      refine G_iload_n F dX7_goesFromTo_19 rfl ?_
      refine G_iload_n F dX7_goesFromTo_20 rfl ?_
      obtain ⟨v5, e_v5, h⟩ := bnd h
      obtain ⟨hc_v5, e_v5⟩ := hp_on_of e_v5
      refine G_callVv F (As := [.inl a1, .inl a3]) (st := []) (metX7_stopAt X e_v5) hc_v5 rfl rfl (lw_V q1624 q1626 qs79 q109 q1627) hdfX7_stopAt ⟨by omega, by decide⟩ rfl (Nat.le_of_ble_eq_true rfl) ⟨by omega, by omega⟩ dX7_goesFromTo_21 ?_
      refine G_aload_n F dX7_goesFromTo_24 rfl ?_
      refine G_iload_n F dX7_goesFromTo_25 rfl ?_
      refine G_iload_n F dX7_goesFromTo_26 rfl ?_
      obtain ⟨v6, e_v6, h⟩ := bnd h
      obtain ⟨hc_v6, e_v6⟩ := hp_on_of e_v6
      refine G_callVv F (As := [.inl a1, .inl a2]) (st := [.inl v5]) (metX7_stopAt X e_v6) hc_v6 rfl rfl (lw_V q1624 q1626 qs79 q109 q1627) hdfX7_stopAt ⟨by omega, by decide⟩ rfl (Nat.le_of_ble_eq_true rfl) ⟨by omega, by omega⟩ dX7_goesFromTo_27 ?_
      refine G_icmp_le F (tgt := 37) dX7_goesFromTo_30 (by decide) (fun c7 => ?_) (fun c7 => ?_)
      · have h := itt c7 h
        refine G_iconst F (v := (0 : Int32)) dX7_goesFromTo_37 (by decide) ?_
        cases h
        exact G_zret F rfl (Or.inl rfl) (Nat.le_refl _) (Nat.le_refl _) rfl dX7_goesFromTo_38
      · have h := itf c7 h
        refine G_iconst F (v := (1 : Int32)) dX7_goesFromTo_33 (by decide) ?_
        refine G_goto F (tgt := 38) dX7_goesFromTo_34 (by decide) ?_
        cases h
        exact G_zret F rfl (Or.inr rfl) (Nat.le_refl _) (Nat.le_refl _) rfl dX7_goesFromTo_38

theorem metX7_longestBetween (X : Gx) {m : Hp} {nx : Nat} {a0 : Option Nat} {rv : Int32} (h : fX7_longestBetween m a0 = some rv) : Con X (2) yX7_longestBetween cX7_longestBetween 4 ((Option.some FieldType.int)) [.inr a0] m nx (some (.inl rv)) m 0 0 := by
  refine Con.of (own := RX7) (nm := "longestBetween") (L := [some (.inr a0), none, none, none]) (by decide +kernel) rfl rfl (Nat.le_of_ble_eq_true rfl) (ent_of 3 rfl) ?_
  intro cx F
  refine G_iconst F (v := (-1 : Int32)) dX7_longestBetween_0 (by decide) ?_
  refine G_istore_n F (L2 := [some (.inr a0), some (.inl (-1 : Int32)), none, none]) dX7_longestBetween_1 (by decide) rfl ?_
  refine G_iconst F (v := (0 : Int32)) dX7_longestBetween_2 (by decide) ?_
  refine G_istore_n F (L2 := [some (.inr a0), some (.inl (-1 : Int32)), some (.inl (0 : Int32)), none]) dX7_longestBetween_3 (by decide) rfl ?_
  refine G_iconst F (v := (0 : Int32)) dX7_longestBetween_4 (by decide) ?_
  refine G_istore_n F (L2 := [some (.inr a0), some (.inl (-1 : Int32)), some (.inl (0 : Int32)), some (.inl (0 : Int32))]) dX7_longestBetween_5 (by decide) rfl ?_
  obtain ⟨r1, hr1, h⟩ := bnd h
  have KE1 : ∀ (v8 : Int32), v8 = r1 → G X cx 4 (Qm X cx (some (.inl rv)) m nx 0 0) (0) (0) m (nx) [none, none, some (.inl v8), none] [] 46 := by
    intro v8 hq
    subst hq
    try dsimp only at h
    refine G_iload_n F dX7_longestBetween_46 rfl ?_
    cases h
    exact G_iret F rfl (Nat.le_refl _) (Nat.le_refl _) rfl dX7_longestBetween_47
  have KB1 : ∀ s o1, fX7_longestBetween_L6 m a0 s = some o1 → (∀ s', o1 = Sum.inl s' → (fun (s : (Int32 × Int32 × Int32)) => match s with | (s1_1, s2_1, s3_1) => G X cx 4 (Qm X cx (some (.inl rv)) m nx 0 0) (0) (0) m (nx) [some (.inr a0), some (.inl s1_1), some (.inl s2_1), some (.inl s3_1)] [] 6) s') → (∀ q, o1 = Sum.inr q → q = r1) → (fun (s : (Int32 × Int32 × Int32)) => match s with | (s1_1, s2_1, s3_1) => G X cx 4 (Qm X cx (some (.inl rv)) m nx 0 0) (0) (0) m (nx) [some (.inr a0), some (.inl s1_1), some (.inl s2_1), some (.inl s3_1)] [] 6) s := by
    intro s o1 h hP1 hE1
    obtain ⟨s1_1, s2_1, s3_1⟩ := s
    try dsimp only at hP1 hE1 ⊢
    refine G_iload_n F dX7_longestBetween_6 rfl ?_
    refine G_sipush F (v := (1439 : Int32)) dX7_longestBetween_7 (by decide) ?_
    refine G_icmp_gt F (tgt := 46) dX7_longestBetween_10 (by decide) (fun c2 => ?_) (fun c2 => ?_)
    · have h := itt c2 h
      cases h
      exact G_sub F (L2 := [none, none, some (.inl s2_1), none]) ⟨rfl, trivial⟩ (KE1 _ (hE1 _ rfl))
    · have h := itf c2 h
      refine G_aload_n F dX7_longestBetween_13 rfl ?_
      obtain ⟨v3, e_v3, h⟩ := bnd h
      refine G_getR F okX7 (f := 59) (by decide) q1283 rfl dX7_longestBetween_14 e_v3 ?_
      refine G_iload_n F dX7_longestBetween_17 rfl ?_
      obtain ⟨v4, e_v4, h⟩ := bnd h
      refine G_zald F dX7_longestBetween_18 e_v4 ?_
      refine G_if_ne F (tgt := 25) dX7_longestBetween_19 (by decide) (fun c5 => ?_) (fun c5 => ?_)
      · have h := itf c5 h
        refine G_iload_n F dX7_longestBetween_25 rfl ?_
        refine G_iconst F (v := (-1 : Int32)) dX7_longestBetween_26 (by decide) ?_
        refine G_icmp_eq F (tgt := 38) dX7_longestBetween_27 (by decide) (fun c6 => ?_) (fun c6 => ?_)
        · have h := itt c6 h
          refine G_iload_n F dX7_longestBetween_38 rfl ?_
          refine G_istore_n F (L2 := [some (.inr a0), some (.inl s3_1), some (.inl s2_1), some (.inl s3_1)]) dX7_longestBetween_39 (by decide) rfl ?_
          refine G_iinc F (v := (s3_1 + (1 : Int32))) (L2 := [some (.inr a0), some (.inl s3_1), some (.inl s2_1), some (.inl (s3_1 + (1 : Int32)))]) dX7_longestBetween_40 (by decide) rfl rfl rfl ?_
          refine G_goto F (tgt := 6) dX7_longestBetween_43 (by decide) ?_
          cases h
          exact G_sub F (L2 := [some (.inr a0), some (.inl s3_1), some (.inl s2_1), some (.inl (s3_1 + (1 : Int32)))]) ⟨rfl, ⟨rfl, ⟨rfl, ⟨rfl, trivial⟩⟩⟩⟩ (hP1 _ rfl)
        · have h := itf c6 h
          refine G_iload_n F dX7_longestBetween_30 rfl ?_
          refine G_iload_n F dX7_longestBetween_31 rfl ?_
          refine G_iload_n F dX7_longestBetween_32 rfl ?_
          refine G_isub F dX7_longestBetween_33 ?_
          obtain ⟨v7, e_v7, h⟩ := bnd h
          refine G_callSv F (As := [.inl s2_1, .inl (s3_1 - s1_1)]) (st := []) (metX7_max X e_v7) (lw_S q1613 q1614 q109 q1615) hdfX7_max ⟨by omega, by decide⟩ rfl (Nat.le_of_ble_eq_true rfl) ⟨by omega, by omega⟩ dX7_longestBetween_34 ?_
          refine G_istore_n F (L2 := [some (.inr a0), some (.inl s1_1), some (.inl v7), some (.inl s3_1)]) dX7_longestBetween_37 (by decide) rfl ?_
          refine G_iload_n F dX7_longestBetween_38 rfl ?_
          refine G_istore_n F (L2 := [some (.inr a0), some (.inl s3_1), some (.inl v7), some (.inl s3_1)]) dX7_longestBetween_39 (by decide) rfl ?_
          refine G_iinc F (v := (s3_1 + (1 : Int32))) (L2 := [some (.inr a0), some (.inl s3_1), some (.inl v7), some (.inl (s3_1 + (1 : Int32)))]) dX7_longestBetween_40 (by decide) rfl rfl rfl ?_
          refine G_goto F (tgt := 6) dX7_longestBetween_43 (by decide) ?_
          cases h
          exact G_sub F (L2 := [some (.inr a0), some (.inl s3_1), some (.inl v7), some (.inl (s3_1 + (1 : Int32)))]) ⟨rfl, ⟨rfl, ⟨rfl, ⟨rfl, trivial⟩⟩⟩⟩ (hP1 _ rfl)
      · have h := itt c5 h
        refine G_goto F (tgt := 40) dX7_longestBetween_22 (by decide) ?_
        refine G_iinc F (v := (s3_1 + (1 : Int32))) (L2 := [some (.inr a0), some (.inl s1_1), some (.inl s2_1), some (.inl (s3_1 + (1 : Int32)))]) dX7_longestBetween_40 (by decide) rfl rfl rfl ?_
        refine G_goto F (tgt := 6) dX7_longestBetween_43 (by decide) ?_
        cases h
        exact G_sub F (L2 := [some (.inr a0), some (.inl s1_1), some (.inl s2_1), some (.inl (s3_1 + (1 : Int32)))]) ⟨rfl, ⟨rfl, ⟨rfl, ⟨rfl, trivial⟩⟩⟩⟩ (hP1 _ rfl)
  have hI := iter_ok (fun (s : (Int32 × Int32 × Int32)) => match s with | (s1_1, s2_1, s3_1) => G X cx 4 (Qm X cx (some (.inl rv)) m nx 0 0) (0) (0) m (nx) [some (.inr a0), some (.inl s1_1), some (.inl s2_1), some (.inl s3_1)] [] 6) (fun q => q = r1) KB1 _ _ _ hr1 rfl
  exact G_sub F (L2 := [some (.inr a0), some (.inl (-1 : Int32)), some (.inl (0 : Int32)), some (.inl (0 : Int32))]) ⟨rfl, ⟨rfl, ⟨rfl, ⟨rfl, trivial⟩⟩⟩⟩ hI

theorem metX7_clearsMinutes (X : Gx) {m : Hp} {nx : Nat} {a0 : Option Nat} {m_ : Hp} (h : fX7_clearsMinutes m a0 = some m_) : Con X (1) yX7_clearsMinutes cX7_clearsMinutes 2 ((none : Option FieldType)) [.inr a0] m nx none m_ 0 0 := by
  refine Con.of (own := RX7) (nm := "clearsMinutes") (L := [some (.inr a0), none]) (by decide +kernel) rfl rfl (Nat.le_of_ble_eq_true rfl) (ent_of 1 rfl) ?_
  intro cx F
  refine G_iconst F (v := (0 : Int32)) dX7_clearsMinutes_0 (by decide) ?_
  refine G_istore_n F (L2 := [some (.inr a0), some (.inl (0 : Int32))]) dX7_clearsMinutes_1 (by decide) rfl ?_
  obtain ⟨r1, hr1, h⟩ := bnd h
  have KE1 : ∀ (m5 : Hp), m5 = r1 → G X cx 2 (Qm X cx none m_ nx 0 0) (0) (0) m5 (nx) [none, none] [] 22 := by
    intro m5 hq
    subst hq
    try dsimp only at h
    cases h
    exact G_vret F rfl (Nat.le_refl _) (Nat.le_refl _) rfl dX7_clearsMinutes_22
  have KB1 : ∀ s o1, fX7_clearsMinutes_L2 a0 s = some o1 → (∀ s', o1 = Sum.inl s' → (fun (s : (Int32 × Hp)) => match s with | (s1_1, m1) => G X cx 2 (Qm X cx none m_ nx 0 0) (0) (0) m1 (nx) [some (.inr a0), some (.inl s1_1)] [] 2) s') → (∀ q, o1 = Sum.inr q → q = r1) → (fun (s : (Int32 × Hp)) => match s with | (s1_1, m1) => G X cx 2 (Qm X cx none m_ nx 0 0) (0) (0) m1 (nx) [some (.inr a0), some (.inl s1_1)] [] 2) s := by
    intro s o1 h hP1 hE1
    obtain ⟨s1_1, m1⟩ := s
    try dsimp only at hP1 hE1 ⊢
    refine G_iload_n F dX7_clearsMinutes_2 rfl ?_
    refine G_sipush F (v := (1439 : Int32)) dX7_clearsMinutes_3 (by decide) ?_
    refine G_icmp_gt F (tgt := 22) dX7_clearsMinutes_6 (by decide) (fun c2 => ?_) (fun c2 => ?_)
    · have h := itt c2 h
      cases h
      exact G_sub F (L2 := [none, none]) trivial (KE1 _ (hE1 _ rfl))
    · have h := itf c2 h
      refine G_aload_n F dX7_clearsMinutes_9 rfl ?_
      obtain ⟨v3, e_v3, h⟩ := bnd h
      refine G_getR F okX7 (f := 59) (by decide) q1283 rfl dX7_clearsMinutes_10 e_v3 ?_
      refine G_iload_n F dX7_clearsMinutes_13 rfl ?_
      refine G_iconst F (v := (0 : Int32)) dX7_clearsMinutes_14 (by decide) ?_
      obtain ⟨m4, e_m4, h⟩ := bnd h
      refine G_zast F dX7_clearsMinutes_15 e_m4 ?_
      refine G_iinc F (v := (s1_1 + (1 : Int32))) (L2 := [some (.inr a0), some (.inl (s1_1 + (1 : Int32)))]) dX7_clearsMinutes_16 (by decide) rfl rfl rfl ?_
      refine G_goto F (tgt := 2) dX7_clearsMinutes_19 (by decide) ?_
      cases h
      exact G_sub F (L2 := [some (.inr a0), some (.inl (s1_1 + (1 : Int32)))]) ⟨rfl, ⟨rfl, trivial⟩⟩ (hP1 _ rfl)
  have hI := iter_ok (fun (s : (Int32 × Hp)) => match s with | (s1_1, m1) => G X cx 2 (Qm X cx none m_ nx 0 0) (0) (0) m1 (nx) [some (.inr a0), some (.inl s1_1)] [] 2) (fun q => q = r1) KB1 _ _ _ hr1 rfl
  exact G_sub F (L2 := [some (.inr a0), some (.inl (0 : Int32))]) ⟨rfl, ⟨rfl, trivial⟩⟩ hI

theorem metX7_direct (X : Gx) {m : Hp} {nx : Nat} {a0 : Option Nat} {a1 : Int32} {a2 : Int32} {a3 : Int32} {rv : Int32} {m_ : Hp} (h : fX7_direct m a0 a1 a2 a3 = some (rv, m_)) : Con X (4) yX7_direct cX7_direct 6 ((Option.some FieldType.int)) [.inr a0, .inl a1, .inl a2, .inl a3] m nx (some (.inl rv)) m_ 0 0 := by
  refine Con.of (own := RX7) (nm := "direct") (L := [some (.inr a0), some (.inl a1), some (.inl a2), some (.inl a3), none, none]) (by decide +kernel) rfl rfl (Nat.le_of_ble_eq_true rfl) (ent_of 2 rfl) ?_
  intro cx F
  refine G_iload_n F dX7_direct_0 rfl ?_
  refine G_iload_n F dX7_direct_1 rfl ?_
  obtain ⟨v1, e_v1, h⟩ := bnd h
  refine G_callSv F (As := [.inl a1, .inl a2]) (st := []) (metX7_areTwo X e_v1) (lw_S q1430 q1431 q109 q1432) hdfX7_areTwo ⟨by omega, by decide⟩ rfl (Nat.le_of_ble_eq_true rfl) ⟨by omega, by omega⟩ dX7_direct_2 ?_
  refine G_if_eq F (tgt := 17) dX7_direct_5 (by decide) (fun c2 => ?_) (fun c2 => ?_)
  · have h := itt c2 h
    refine G_iconst F (v := (-1 : Int32)) dX7_direct_17 (by decide) ?_
    cases h
    exact G_iret F rfl (Nat.le_refl _) (Nat.le_refl _) rfl dX7_direct_18
  · have h := itf c2 h
    refine G_iload_n F dX7_direct_8 rfl ?_
    refine G_iconst F (v := (0 : Int32)) dX7_direct_9 (by decide) ?_
    refine G_iconst F (v := (1 : Int32)) dX7_direct_10 (by decide) ?_
    obtain ⟨v3, e_v3, h⟩ := bnd h
    refine G_callSv F (As := [.inl a3, .inl (0 : Int32), .inl (1 : Int32)]) (st := []) (metX7_in X e_v3) (lw_S q1427 q1428 q109 q1429) hdfX7_in ⟨by omega, by decide⟩ rfl (Nat.le_of_ble_eq_true rfl) ⟨by omega, by omega⟩ dX7_direct_11 ?_
    refine G_if_ne F (tgt := 19) dX7_direct_14 (by decide) (fun c4 => ?_) (fun c4 => ?_)
    · have h := itf c4 h
      refine G_aload_n F dX7_direct_19 rfl ?_
      obtain ⟨m5, e_m5, h⟩ := bnd h
      obtain ⟨hc_m5, e_m5⟩ := hp_on_of e_m5
      refine G_callV0 F (As := []) (st := []) (metX7_clearsMinutes X e_m5) hc_m5 rfl rfl (lw_V q1704 q1706 qs88 q109 q1707) hdfX7_clearsMinutes ⟨by omega, by decide⟩ rfl (Nat.le_of_ble_eq_true rfl) ⟨by omega, by omega⟩ dX7_direct_20 ?_
      refine G_iconst F (v := (0 : Int32)) dX7_direct_23 (by decide) ?_
      refine G_istore F (L2 := [some (.inr a0), some (.inl a1), some (.inl a2), some (.inl a3), some (.inl (0 : Int32)), none]) dX7_direct_24 (by decide) rfl ?_
      refine G_iconst F (v := (0 : Int32)) dX7_direct_26 (by decide) ?_
      refine G_istore F (L2 := [some (.inr a0), some (.inl a1), some (.inl a2), some (.inl a3), some (.inl (0 : Int32)), some (.inl (0 : Int32))]) dX7_direct_27 (by decide) rfl ?_
      obtain ⟨r6, hr6, h⟩ := bnd h
      have KE6 : ∀ (v14 : Int32) (m15 : Hp), (v14, m15) = r6 → G X cx 6 (Qm X cx (some (.inl rv)) m_ nx 0 0) (0) (0) m15 (nx) [some (.inr a0), none, none, some (.inl a3), some (.inl v14), none] [] 77 := by
        intro v14 m15 hq
        subst hq
        try dsimp only at h
        refine G_iload_n F dX7_direct_77 rfl ?_
        refine G_if_ne F (tgt := 86) dX7_direct_78 (by decide) (fun c16 => ?_) (fun c16 => ?_)
        · have h := itf c16 h
          refine G_aload_n F dX7_direct_86 rfl ?_
          obtain ⟨v17, e_v17, h⟩ := bnd h
          obtain ⟨hc_v17, e_v17⟩ := hp_on_of e_v17
          refine G_callVv F (As := []) (st := []) (metX7_longestBetween X e_v17) hc_v17 rfl rfl (lw_V q1712 q1714 qs90 q109 q1715) hdfX7_longestBetween ⟨by omega, by decide⟩ rfl (Nat.le_of_ble_eq_true rfl) ⟨by omega, by omega⟩ dX7_direct_87 ?_
          cases h
          exact G_iret F rfl (Nat.le_refl _) (Nat.le_refl _) rfl dX7_direct_90
        · have h := itt c16 h
          refine G_iload F dX7_direct_81 rfl ?_
          refine G_goto F (tgt := 90) dX7_direct_83 (by decide) ?_
          cases h
          exact G_iret F rfl (Nat.le_refl _) (Nat.le_refl _) rfl dX7_direct_90
      have KB6 : ∀ s o6, fX7_direct_L29 a0 a1 a2 a3 s = some o6 → (∀ s', o6 = Sum.inl s' → (fun (s : (Int32 × Int32 × Hp)) => match s with | (s4_6, s5_6, m6) => G X cx 6 (Qm X cx (some (.inl rv)) m_ nx 0 0) (0) (0) m6 (nx) [some (.inr a0), some (.inl a1), some (.inl a2), some (.inl a3), some (.inl s4_6), some (.inl s5_6)] [] 29) s') → (∀ q, o6 = Sum.inr q → q = r6) → (fun (s : (Int32 × Int32 × Hp)) => match s with | (s4_6, s5_6, m6) => G X cx 6 (Qm X cx (some (.inl rv)) m_ nx 0 0) (0) (0) m6 (nx) [some (.inr a0), some (.inl a1), some (.inl a2), some (.inl a3), some (.inl s4_6), some (.inl s5_6)] [] 29) s := by
        intro s o6 h hP6 hE6
        obtain ⟨s4_6, s5_6, m6⟩ := s
        try dsimp only at hP6 hE6 ⊢
        refine G_iload F dX7_direct_29 rfl ?_
        refine G_aload_n F dX7_direct_31 rfl ?_
        obtain ⟨v7, e_v7, h⟩ := bnd h
        refine G_getI F okX7 (f := 14) (by decide) q1238 rfl dX7_direct_32 e_v7 ?_
        refine G_icmp_ge F (tgt := 77) dX7_direct_35 (by decide) (fun c8 => ?_) (fun c8 => ?_)
        · have h := itt c8 h
          cases h
          exact G_sub F (L2 := [some (.inr a0), none, none, some (.inl a3), some (.inl s4_6), none]) ⟨rfl, ⟨rfl, ⟨rfl, trivial⟩⟩⟩ (KE6 _ _ (hE6 _ rfl))
        · have h := itf c8 h
          refine G_aload_n F dX7_direct_38 rfl ?_
          refine G_iload F dX7_direct_39 rfl ?_
          refine G_iload_n F dX7_direct_41 rfl ?_
          refine G_iload_n F dX7_direct_42 rfl ?_
          obtain ⟨v9, e_v9, h⟩ := bnd h
          obtain ⟨hc_v9, e_v9⟩ := hp_on_of e_v9
          refine G_callVv F (As := [.inl s5_6, .inl a1, .inl a2]) (st := []) (metX7_goesFromTo X e_v9) hc_v9 rfl rfl (lw_V q1708 q1710 qs89 q109 q1711) hdfX7_goesFromTo ⟨by omega, by decide⟩ rfl (Nat.le_of_ble_eq_true rfl) ⟨by omega, by omega⟩ dX7_direct_43 ?_
          refine G_if_ne F (tgt := 52) dX7_direct_46 (by decide) (fun c10 => ?_) (fun c10 => ?_)
          · have h := itf c10 h
            refine G_iload F dX7_direct_52 rfl ?_
            refine G_iconst F (v := (1 : Int32)) dX7_direct_54 (by decide) ?_
            refine G_iadd F dX7_direct_55 ?_
            refine G_istore F (L2 := [some (.inr a0), some (.inl a1), some (.inl a2), some (.inl a3), some (.inl (s4_6 + (1 : Int32))), some (.inl s5_6)]) dX7_direct_56 (by decide) rfl ?_
            refine G_aload_n F dX7_direct_58 rfl ?_
            obtain ⟨v11, e_v11, h⟩ := bnd h
            refine G_getR F okX7 (f := 59) (by decide) q1283 rfl dX7_direct_59 e_v11 ?_
            refine G_aload_n F dX7_direct_62 rfl ?_
            refine G_iload F dX7_direct_63 rfl ?_
            refine G_iload_n F dX7_direct_65 rfl ?_
            obtain ⟨v12, e_v12, h⟩ := bnd h
            obtain ⟨hc_v12, e_v12⟩ := hp_on_of e_v12
            refine G_callVv F (As := [.inl s5_6, .inl a1]) (st := [.inr v11]) (metX7_minuteAt X e_v12) hc_v12 rfl rfl (lw_V q1684 q1686 qs86 q109 q1687) hdfX7_minuteAt ⟨by omega, by decide⟩ rfl (Nat.le_of_ble_eq_true rfl) ⟨by omega, by omega⟩ dX7_direct_66 ?_
            refine G_iconst F (v := (1 : Int32)) dX7_direct_69 (by decide) ?_
            obtain ⟨m13, e_m13, h⟩ := bnd h
            refine G_zast F dX7_direct_70 e_m13 ?_
            refine G_iinc F (v := (s5_6 + (1 : Int32))) (L2 := [some (.inr a0), some (.inl a1), some (.inl a2), some (.inl a3), some (.inl (s4_6 + (1 : Int32))), some (.inl (s5_6 + (1 : Int32)))]) dX7_direct_71 (by decide) rfl rfl rfl ?_
            refine G_goto F (tgt := 29) dX7_direct_74 (by decide) ?_
            cases h
            exact G_sub F (L2 := [some (.inr a0), some (.inl a1), some (.inl a2), some (.inl a3), some (.inl (s4_6 + (1 : Int32))), some (.inl (s5_6 + (1 : Int32)))]) ⟨rfl, ⟨rfl, ⟨rfl, ⟨rfl, ⟨rfl, ⟨rfl, trivial⟩⟩⟩⟩⟩⟩ (hP6 _ rfl)
          · have h := itt c10 h
            refine G_goto F (tgt := 71) dX7_direct_49 (by decide) ?_
            refine G_iinc F (v := (s5_6 + (1 : Int32))) (L2 := [some (.inr a0), some (.inl a1), some (.inl a2), some (.inl a3), some (.inl s4_6), some (.inl (s5_6 + (1 : Int32)))]) dX7_direct_71 (by decide) rfl rfl rfl ?_
            refine G_goto F (tgt := 29) dX7_direct_74 (by decide) ?_
            cases h
            exact G_sub F (L2 := [some (.inr a0), some (.inl a1), some (.inl a2), some (.inl a3), some (.inl s4_6), some (.inl (s5_6 + (1 : Int32)))]) ⟨rfl, ⟨rfl, ⟨rfl, ⟨rfl, ⟨rfl, ⟨rfl, trivial⟩⟩⟩⟩⟩⟩ (hP6 _ rfl)
      have hI := iter_ok (fun (s : (Int32 × Int32 × Hp)) => match s with | (s4_6, s5_6, m6) => G X cx 6 (Qm X cx (some (.inl rv)) m_ nx 0 0) (0) (0) m6 (nx) [some (.inr a0), some (.inl a1), some (.inl a2), some (.inl a3), some (.inl s4_6), some (.inl s5_6)] [] 29) (fun q => q = r6) KB6 _ _ _ hr6 rfl
      exact G_sub F (L2 := [some (.inr a0), some (.inl a1), some (.inl a2), some (.inl a3), some (.inl (0 : Int32)), some (.inl (0 : Int32))]) ⟨rfl, ⟨rfl, ⟨rfl, ⟨rfl, ⟨rfl, ⟨rfl, trivial⟩⟩⟩⟩⟩⟩ hI
    · have h := itt c4 h
      refine G_iconst F (v := (-1 : Int32)) dX7_direct_17 (by decide) ?_
      cases h
      exact G_iret F rfl (Nat.le_refl _) (Nat.le_refl _) rfl dX7_direct_18

theorem metX7_longestWait (X : Gx) {m : Hp} {nx : Nat} {a0 : Option Nat} {a1 : Int32} {rv : Int32} {m_ : Hp} (h : fX7_longestWait m a0 a1 = some (rv, m_)) : Con X (4) yX7_longestWait cX7_longestWait 3 ((Option.some FieldType.int)) [.inr a0, .inl a1] m nx (some (.inl rv)) m_ 0 0 := by
  refine Con.of (own := RX7) (nm := "longestWait") (L := [some (.inr a0), some (.inl a1), none]) (by decide +kernel) rfl rfl (Nat.le_of_ble_eq_true rfl) (ent_of 1 rfl) ?_
  intro cx F
  refine G_iload_n F dX7_longestWait_0 rfl ?_
  obtain ⟨v1, e_v1, h⟩ := bnd h
  refine G_callSv F (As := [.inl a1]) (st := []) (metX7_isStation X e_v1) (lw_S q1433 q1434 q109 q1435) hdfX7_isStation ⟨by omega, by decide⟩ rfl (Nat.le_of_ble_eq_true rfl) ⟨by omega, by omega⟩ dX7_longestWait_1 ?_
  refine G_if_ne F (tgt := 9) dX7_longestWait_4 (by decide) (fun c2 => ?_) (fun c2 => ?_)
  · have h := itf c2 h
    refine G_aload_n F dX7_longestWait_9 rfl ?_
    obtain ⟨m3, e_m3, h⟩ := bnd h
    obtain ⟨hc_m3, e_m3⟩ := hp_on_of e_m3
    refine G_callV0 F (As := []) (st := []) (metX7_clearsMinutes X e_m3) hc_m3 rfl rfl (lw_V q1704 q1706 qs88 q109 q1707) hdfX7_clearsMinutes ⟨by omega, by decide⟩ rfl (Nat.le_of_ble_eq_true rfl) ⟨by omega, by omega⟩ dX7_longestWait_10 ?_
    refine G_iconst F (v := (0 : Int32)) dX7_longestWait_13 (by decide) ?_
    refine G_istore_n F (L2 := [some (.inr a0), some (.inl a1), some (.inl (0 : Int32))]) dX7_longestWait_14 (by decide) rfl ?_
    obtain ⟨r4, hr4, h⟩ := bnd h
    have KE4 : ∀ (m12 : Hp), m12 = r4 → G X cx 3 (Qm X cx (some (.inl rv)) m_ nx 0 0) (0) (0) m12 (nx) [some (.inr a0), none, none] [] 50 := by
      intro m12 hq
      subst hq
      try dsimp only at h
      refine G_aload_n F dX7_longestWait_50 rfl ?_
      obtain ⟨v13, e_v13, h⟩ := bnd h
      obtain ⟨hc_v13, e_v13⟩ := hp_on_of e_v13
      refine G_callVv F (As := []) (st := []) (metX7_longestBetween X e_v13) hc_v13 rfl rfl (lw_V q1712 q1714 qs90 q109 q1715) hdfX7_longestBetween ⟨by omega, by decide⟩ rfl (Nat.le_of_ble_eq_true rfl) ⟨by omega, by omega⟩ dX7_longestWait_51 ?_
      cases h
      exact G_iret F rfl (Nat.le_refl _) (Nat.le_refl _) rfl dX7_longestWait_54
    have KB4 : ∀ s o4, fX7_longestWait_L15 a0 a1 s = some o4 → (∀ s', o4 = Sum.inl s' → (fun (s : (Int32 × Hp)) => match s with | (s2_4, m4) => G X cx 3 (Qm X cx (some (.inl rv)) m_ nx 0 0) (0) (0) m4 (nx) [some (.inr a0), some (.inl a1), some (.inl s2_4)] [] 15) s') → (∀ q, o4 = Sum.inr q → q = r4) → (fun (s : (Int32 × Hp)) => match s with | (s2_4, m4) => G X cx 3 (Qm X cx (some (.inl rv)) m_ nx 0 0) (0) (0) m4 (nx) [some (.inr a0), some (.inl a1), some (.inl s2_4)] [] 15) s := by
      intro s o4 h hP4 hE4
      obtain ⟨s2_4, m4⟩ := s
      try dsimp only at hP4 hE4 ⊢
      refine G_iload_n F dX7_longestWait_15 rfl ?_
      refine G_aload_n F dX7_longestWait_16 rfl ?_
      obtain ⟨v5, e_v5, h⟩ := bnd h
      refine G_getI F okX7 (f := 14) (by decide) q1238 rfl dX7_longestWait_17 e_v5 ?_
      refine G_icmp_ge F (tgt := 50) dX7_longestWait_20 (by decide) (fun c6 => ?_) (fun c6 => ?_)
      · have h := itt c6 h
        cases h
        exact G_sub F (L2 := [some (.inr a0), none, none]) ⟨rfl, trivial⟩ (KE4 _ (hE4 _ rfl))
      · have h := itf c6 h
        refine G_aload_n F dX7_longestWait_23 rfl ?_
        refine G_iload_n F dX7_longestWait_24 rfl ?_
        refine G_iload_n F dX7_longestWait_25 rfl ?_
        obtain ⟨v7, e_v7, h⟩ := bnd h
        obtain ⟨hc_v7, e_v7⟩ := hp_on_of e_v7
        refine G_callVv F (As := [.inl s2_4, .inl a1]) (st := []) (metX7_leavesFrom X e_v7) hc_v7 rfl rfl (lw_V q1676 q1678 qs85 q109 q1679) hdfX7_leavesFrom ⟨by omega, by decide⟩ rfl (Nat.le_of_ble_eq_true rfl) ⟨by omega, by omega⟩ dX7_longestWait_26 ?_
        refine G_if_eq F (tgt := 44) dX7_longestWait_29 (by decide) (fun c8 => ?_) (fun c8 => ?_)
        · have h := itt c8 h
          refine G_iinc F (v := (s2_4 + (1 : Int32))) (L2 := [some (.inr a0), some (.inl a1), some (.inl (s2_4 + (1 : Int32)))]) dX7_longestWait_44 (by decide) rfl rfl rfl ?_
          refine G_goto F (tgt := 15) dX7_longestWait_47 (by decide) ?_
          cases h
          exact G_sub F (L2 := [some (.inr a0), some (.inl a1), some (.inl (s2_4 + (1 : Int32)))]) ⟨rfl, ⟨rfl, ⟨rfl, trivial⟩⟩⟩ (hP4 _ rfl)
        · have h := itf c8 h
          refine G_aload_n F dX7_longestWait_32 rfl ?_
          obtain ⟨v9, e_v9, h⟩ := bnd h
          refine G_getR F okX7 (f := 59) (by decide) q1283 rfl dX7_longestWait_33 e_v9 ?_
          refine G_aload_n F dX7_longestWait_36 rfl ?_
          refine G_iload_n F dX7_longestWait_37 rfl ?_
          refine G_iload_n F dX7_longestWait_38 rfl ?_
          obtain ⟨v10, e_v10, h⟩ := bnd h
          obtain ⟨hc_v10, e_v10⟩ := hp_on_of e_v10
          refine G_callVv F (As := [.inl s2_4, .inl a1]) (st := [.inr v9]) (metX7_minuteAt X e_v10) hc_v10 rfl rfl (lw_V q1684 q1686 qs86 q109 q1687) hdfX7_minuteAt ⟨by omega, by decide⟩ rfl (Nat.le_of_ble_eq_true rfl) ⟨by omega, by omega⟩ dX7_longestWait_39 ?_
          refine G_iconst F (v := (1 : Int32)) dX7_longestWait_42 (by decide) ?_
          obtain ⟨m11, e_m11, h⟩ := bnd h
          refine G_zast F dX7_longestWait_43 e_m11 ?_
          refine G_iinc F (v := (s2_4 + (1 : Int32))) (L2 := [some (.inr a0), some (.inl a1), some (.inl (s2_4 + (1 : Int32)))]) dX7_longestWait_44 (by decide) rfl rfl rfl ?_
          refine G_goto F (tgt := 15) dX7_longestWait_47 (by decide) ?_
          cases h
          exact G_sub F (L2 := [some (.inr a0), some (.inl a1), some (.inl (s2_4 + (1 : Int32)))]) ⟨rfl, ⟨rfl, ⟨rfl, trivial⟩⟩⟩ (hP4 _ rfl)
    have hI := iter_ok (fun (s : (Int32 × Hp)) => match s with | (s2_4, m4) => G X cx 3 (Qm X cx (some (.inl rv)) m_ nx 0 0) (0) (0) m4 (nx) [some (.inr a0), some (.inl a1), some (.inl s2_4)] [] 15) (fun q => q = r4) KB4 _ _ _ hr4 rfl
    exact G_sub F (L2 := [some (.inr a0), some (.inl a1), some (.inl (0 : Int32))]) ⟨rfl, ⟨rfl, ⟨rfl, trivial⟩⟩⟩ hI
  · have h := itt c2 h
    refine G_iconst F (v := (-1 : Int32)) dX7_longestWait_7 (by decide) ?_
    cases h
    exact G_iret F rfl (Nat.le_refl _) (Nat.le_refl _) rfl dX7_longestWait_8

theorem metX7_justMissed (X : Gx) {m : Hp} {nx : Nat} {a0 : Option Nat} {a1 : Int32} {a2 : Int32} {rv : Int32} (h : fX7_justMissed m a0 a1 a2 = some rv) : Con X (4) yX7_justMissed cX7_justMissed 7 ((Option.some FieldType.int)) [.inr a0, .inl a1, .inl a2] m nx (some (.inl rv)) m 0 0 := by
  refine Con.of (own := RX7) (nm := "justMissed") (L := [some (.inr a0), some (.inl a1), some (.inl a2), none, none, none, none]) (by decide +kernel) rfl rfl (Nat.le_of_ble_eq_true rfl) (ent_of 4 rfl) ?_
  intro cx F
  refine G_iload_n F dX7_justMissed_0 rfl ?_
  obtain ⟨v1, e_v1, h⟩ := bnd h
  refine G_callSv F (As := [.inl a1]) (st := []) (metX7_isStation X e_v1) (lw_S q1433 q1434 q109 q1435) hdfX7_isStation ⟨by omega, by decide⟩ rfl (Nat.le_of_ble_eq_true rfl) ⟨by omega, by omega⟩ dX7_justMissed_1 ?_
  refine G_if_eq F (tgt := 17) dX7_justMissed_4 (by decide) (fun c2 => ?_) (fun c2 => ?_)
  · have h := itt c2 h
    refine G_iconst F (v := (-1 : Int32)) dX7_justMissed_17 (by decide) ?_
    cases h
    exact G_iret F rfl (Nat.le_refl _) (Nat.le_refl _) rfl dX7_justMissed_18
  · have h := itf c2 h
    refine G_iload_n F dX7_justMissed_7 rfl ?_
    refine G_iconst F (v := (0 : Int32)) dX7_justMissed_8 (by decide) ?_
    refine G_bipush F (v := (60 : Int32)) dX7_justMissed_9 (by decide) ?_
    obtain ⟨v3, e_v3, h⟩ := bnd h
    refine G_callSv F (As := [.inl a2, .inl (0 : Int32), .inl (60 : Int32)]) (st := []) (metX7_in X e_v3) (lw_S q1427 q1428 q109 q1429) hdfX7_in ⟨by omega, by decide⟩ rfl (Nat.le_of_ble_eq_true rfl) ⟨by omega, by omega⟩ dX7_justMissed_11 ?_
    refine G_if_ne F (tgt := 19) dX7_justMissed_14 (by decide) (fun c4 => ?_) (fun c4 => ?_)
    · have h := itf c4 h
      refine G_iconst F (v := (0 : Int32)) dX7_justMissed_19 (by decide) ?_
      refine G_istore_n F (L2 := [some (.inr a0), some (.inl a1), some (.inl a2), some (.inl (0 : Int32)), none, none, none]) dX7_justMissed_20 (by decide) rfl ?_
      refine G_iconst F (v := (0 : Int32)) dX7_justMissed_21 (by decide) ?_
      refine G_istore F (L2 := [some (.inr a0), some (.inl a1), some (.inl a2), some (.inl (0 : Int32)), some (.inl (0 : Int32)), none, none]) dX7_justMissed_22 (by decide) rfl ?_
      obtain ⟨r5, hr5, h⟩ := bnd h
      have KE5 : ∀ (v25 : Int32), v25 = r5 → G X cx 7 (Qm X cx (some (.inl rv)) m nx 0 0) (0) (0) m (nx) [none, none, none, some (.inl v25), none, none, none] [] 134 := by
        intro v25 hq
        subst hq
        try dsimp only at h
        refine G_iload_n F dX7_justMissed_134 rfl ?_
        cases h
        exact G_iret F rfl (Nat.le_refl _) (Nat.le_refl _) rfl dX7_justMissed_135
      have KB5 : ∀ s o5, fX7_justMissed_L24 m a0 a1 a2 s = some o5 → (∀ s', o5 = Sum.inl s' → (fun (s : (Int32 × Int32)) => match s with | (s3_5, s4_5) => G X cx 7 (Qm X cx (some (.inl rv)) m nx 0 0) (0) (0) m (nx) [some (.inr a0), some (.inl a1), some (.inl a2), some (.inl s3_5), some (.inl s4_5), none, none] [] 24) s') → (∀ q, o5 = Sum.inr q → q = r5) → (fun (s : (Int32 × Int32)) => match s with | (s3_5, s4_5) => G X cx 7 (Qm X cx (some (.inl rv)) m nx 0 0) (0) (0) m (nx) [some (.inr a0), some (.inl a1), some (.inl a2), some (.inl s3_5), some (.inl s4_5), none, none] [] 24) s := by
        intro s o5 h hP5 hE5
        obtain ⟨s3_5, s4_5⟩ := s
        try dsimp only at hP5 hE5 ⊢
        refine G_iload F dX7_justMissed_24 rfl ?_
        refine G_aload_n F dX7_justMissed_26 rfl ?_
        obtain ⟨v6, e_v6, h⟩ := bnd h
        refine G_getI F okX7 (f := 14) (by decide) q1238 rfl dX7_justMissed_27 e_v6 ?_
        refine G_icmp_ge F (tgt := 134) dX7_justMissed_30 (by decide) (fun c7 => ?_) (fun c7 => ?_)
        · have h := itt c7 h
          cases h
          exact G_sub F (L2 := [none, none, none, some (.inl s3_5), none, none, none]) ⟨rfl, trivial⟩ (KE5 _ (hE5 _ rfl))
        · have h := itf c7 h
          refine G_iconst F (v := (0 : Int32)) dX7_justMissed_33 (by decide) ?_
          refine G_istore F (L2 := [some (.inr a0), some (.inl a1), some (.inl a2), some (.inl s3_5), some (.inl s4_5), some (.inl (0 : Int32)), none]) dX7_justMissed_34 (by decide) rfl ?_
          obtain ⟨r8, hr8, h⟩ := bnd h
          have KE8 : ∀ (v24 : Int32), v24 = r8 → G X cx 7 (Qm X cx (some (.inl rv)) m nx 0 0) (0) (0) m (nx) [some (.inr a0), some (.inl a1), some (.inl a2), some (.inl v24), some (.inl s4_5), none, none] [] 128 := by
            intro v24 hq
            subst hq
            try dsimp only at h
            refine G_iinc F (v := (s4_5 + (1 : Int32))) (L2 := [some (.inr a0), some (.inl a1), some (.inl a2), some (.inl v24), some (.inl (s4_5 + (1 : Int32))), none, none]) dX7_justMissed_128 (by decide) rfl rfl rfl ?_
            refine G_goto F (tgt := 24) dX7_justMissed_131 (by decide) ?_
            cases h
            exact G_sub F (L2 := [some (.inr a0), some (.inl a1), some (.inl a2), some (.inl v24), some (.inl (s4_5 + (1 : Int32))), none, none]) ⟨rfl, ⟨rfl, ⟨rfl, ⟨rfl, ⟨rfl, trivial⟩⟩⟩⟩⟩ (hP5 _ rfl)
          have KB8 : ∀ s o8, fX7_justMissed_L36 m a0 a1 a2 s4_5 s = some o8 → (∀ s', o8 = Sum.inl s' → (fun (s : (Int32 × Int32)) => match s with | (s3_8, s5_8) => G X cx 7 (Qm X cx (some (.inl rv)) m nx 0 0) (0) (0) m (nx) [some (.inr a0), some (.inl a1), some (.inl a2), some (.inl s3_8), some (.inl s4_5), some (.inl s5_8), none] [] 36) s') → (∀ q, o8 = Sum.inr q → q = r8) → (fun (s : (Int32 × Int32)) => match s with | (s3_8, s5_8) => G X cx 7 (Qm X cx (some (.inl rv)) m nx 0 0) (0) (0) m (nx) [some (.inr a0), some (.inl a1), some (.inl a2), some (.inl s3_8), some (.inl s4_5), some (.inl s5_8), none] [] 36) s := by
            intro s o8 h hP8 hE8
            obtain ⟨s3_8, s5_8⟩ := s
            try dsimp only at hP8 hE8 ⊢
            refine G_iload F dX7_justMissed_36 rfl ?_
            refine G_aload_n F dX7_justMissed_38 rfl ?_
            obtain ⟨v9, e_v9, h⟩ := bnd h
            refine G_getI F okX7 (f := 14) (by decide) q1238 rfl dX7_justMissed_39 e_v9 ?_
            refine G_icmp_ge F (tgt := 128) dX7_justMissed_42 (by decide) (fun c10 => ?_) (fun c10 => ?_)
            · have h := itt c10 h
              cases h
              exact G_sub F (L2 := [some (.inr a0), some (.inl a1), some (.inl a2), some (.inl s3_8), some (.inl s4_5), none, none]) ⟨rfl, ⟨rfl, ⟨rfl, ⟨rfl, ⟨rfl, trivial⟩⟩⟩⟩⟩ (KE8 _ (hE8 _ rfl))
            · have h := itf c10 h
              refine G_iload F dX7_justMissed_45 rfl ?_
              refine G_iload F dX7_justMissed_47 rfl ?_
              refine G_icmp_eq F (tgt := 122) dX7_justMissed_49 (by decide) (fun c11 => ?_) (fun c11 => ?_)
              · have h := itt c11 h
                refine G_iinc F (v := (s5_8 + (1 : Int32))) (L2 := [some (.inr a0), some (.inl a1), some (.inl a2), some (.inl s3_8), some (.inl s4_5), some (.inl (s5_8 + (1 : Int32))), none]) dX7_justMissed_122 (by decide) rfl rfl rfl ?_
                refine G_goto F (tgt := 36) dX7_justMissed_125 (by decide) ?_
                cases h
                exact G_sub F (L2 := [some (.inr a0), some (.inl a1), some (.inl a2), some (.inl s3_8), some (.inl s4_5), some (.inl (s5_8 + (1 : Int32))), none]) ⟨rfl, ⟨rfl, ⟨rfl, ⟨rfl, ⟨rfl, ⟨rfl, trivial⟩⟩⟩⟩⟩⟩ (hP8 _ rfl)
              · have h := itf c11 h
                refine G_aload_n F dX7_justMissed_52 rfl ?_
                refine G_iload F dX7_justMissed_53 rfl ?_
                refine G_iload_n F dX7_justMissed_55 rfl ?_
                obtain ⟨v12, e_v12, h⟩ := bnd h
                obtain ⟨hc_v12, e_v12⟩ := hp_on_of e_v12
                refine G_callVv F (As := [.inl s4_5, .inl a1]) (st := []) (metX7_leavesFrom X e_v12) hc_v12 rfl rfl (lw_V q1676 q1678 qs85 q109 q1679) hdfX7_leavesFrom ⟨by omega, by decide⟩ rfl (Nat.le_of_ble_eq_true rfl) ⟨by omega, by omega⟩ dX7_justMissed_56 ?_
                refine G_if_eq F (tgt := 122) dX7_justMissed_59 (by decide) (fun c13 => ?_) (fun c13 => ?_)
                · have h := itt c13 h
                  refine G_iinc F (v := (s5_8 + (1 : Int32))) (L2 := [some (.inr a0), some (.inl a1), some (.inl a2), some (.inl s3_8), some (.inl s4_5), some (.inl (s5_8 + (1 : Int32))), none]) dX7_justMissed_122 (by decide) rfl rfl rfl ?_
                  refine G_goto F (tgt := 36) dX7_justMissed_125 (by decide) ?_
                  cases h
                  exact G_sub F (L2 := [some (.inr a0), some (.inl a1), some (.inl a2), some (.inl s3_8), some (.inl s4_5), some (.inl (s5_8 + (1 : Int32))), none]) ⟨rfl, ⟨rfl, ⟨rfl, ⟨rfl, ⟨rfl, ⟨rfl, trivial⟩⟩⟩⟩⟩⟩ (hP8 _ rfl)
                · have h := itf c13 h
                  refine G_aload_n F dX7_justMissed_62 rfl ?_
                  refine G_iload F dX7_justMissed_63 rfl ?_
                  refine G_iload_n F dX7_justMissed_65 rfl ?_
                  obtain ⟨v14, e_v14, h⟩ := bnd h
                  obtain ⟨hc_v14, e_v14⟩ := hp_on_of e_v14
                  refine G_callVv F (As := [.inl s5_8, .inl a1]) (st := []) (metX7_comesTo X e_v14) hc_v14 rfl rfl (lw_V q1724 q1726 qs91 q109 q1727) hdfX7_comesTo ⟨by omega, by decide⟩ rfl (Nat.le_of_ble_eq_true rfl) ⟨by omega, by omega⟩ dX7_justMissed_66 ?_
                  refine G_if_ne F (tgt := 75) dX7_justMissed_69 (by decide) (fun c15 => ?_) (fun c15 => ?_)
                  · have h := itf c15 h
                    refine G_aload_n F dX7_justMissed_75 rfl ?_
                    refine G_iload F dX7_justMissed_76 rfl ?_
                    refine G_iload_n F dX7_justMissed_78 rfl ?_
                    obtain ⟨v16, e_v16, h⟩ := bnd h
                    obtain ⟨hc_v16, e_v16⟩ := hp_on_of e_v16
                    refine G_callVv F (As := [.inl s4_5, .inl a1]) (st := []) (metX7_minuteAt X e_v16) hc_v16 rfl rfl (lw_V q1684 q1686 qs86 q109 q1687) hdfX7_minuteAt ⟨by omega, by decide⟩ rfl (Nat.le_of_ble_eq_true rfl) ⟨by omega, by omega⟩ dX7_justMissed_79 ?_
                    refine G_aload_n F dX7_justMissed_82 rfl ?_
                    refine G_iload F dX7_justMissed_83 rfl ?_
                    refine G_iload_n F dX7_justMissed_85 rfl ?_
                    obtain ⟨v17, e_v17, h⟩ := bnd h
                    obtain ⟨hc_v17, e_v17⟩ := hp_on_of e_v17
                    refine G_callVv F (As := [.inl s5_8, .inl a1]) (st := [.inl v16]) (metX7_minuteAt X e_v17) hc_v17 rfl rfl (lw_V q1684 q1686 qs86 q109 q1687) hdfX7_minuteAt ⟨by omega, by decide⟩ rfl (Nat.le_of_ble_eq_true rfl) ⟨by omega, by omega⟩ dX7_justMissed_86 ?_
                    refine G_isub F dX7_justMissed_89 ?_
                    refine G_istore F (L2 := [some (.inr a0), some (.inl a1), some (.inl a2), some (.inl s3_8), some (.inl s4_5), some (.inl s5_8), some (.inl (v16 - v17))]) dX7_justMissed_90 (by decide) rfl ?_
                    refine G_iload F dX7_justMissed_92 rfl ?_
                    obtain ⟨p18, hp18, h⟩ := bnd h
                    have K18 : ∀ (_ : Unit), Sum.inl () = p18 → G X cx 7 (Qm X cx (some (.inl rv)) m nx 0 0) (0) (0) m (nx) [some (.inr a0), some (.inl a1), some (.inl a2), some (.inl s3_8), some (.inl s4_5), some (.inl s5_8), some (.inl (v16 - v17))] [] 106 := by
                      intro _ hq
                      subst hq
                      try dsimp only at h
                      refine G_iload F dX7_justMissed_106 rfl ?_
                      refine G_if_ge F (tgt := 122) dX7_justMissed_108 (by decide) (fun c19 => ?_) (fun c19 => ?_)
                      · have h := itt c19 h
                        refine G_iinc F (v := (s5_8 + (1 : Int32))) (L2 := [some (.inr a0), some (.inl a1), some (.inl a2), some (.inl s3_8), some (.inl s4_5), some (.inl (s5_8 + (1 : Int32))), some (.inl (v16 - v17))]) dX7_justMissed_122 (by decide) rfl rfl rfl ?_
                        refine G_goto F (tgt := 36) dX7_justMissed_125 (by decide) ?_
                        cases h
                        exact G_sub F (L2 := [some (.inr a0), some (.inl a1), some (.inl a2), some (.inl s3_8), some (.inl s4_5), some (.inl (s5_8 + (1 : Int32))), none]) ⟨rfl, ⟨rfl, ⟨rfl, ⟨rfl, ⟨rfl, ⟨rfl, trivial⟩⟩⟩⟩⟩⟩ (hP8 _ rfl)
                      · have h := itf c19 h
                        refine G_iload F dX7_justMissed_111 rfl ?_
                        refine G_ineg F dX7_justMissed_113 ?_
                        refine G_iload_n F dX7_justMissed_114 rfl ?_
                        refine G_icmp_gt F (tgt := 122) dX7_justMissed_115 (by decide) (fun c20 => ?_) (fun c20 => ?_)
                        · have h := itt c20 h
                          refine G_iinc F (v := (s5_8 + (1 : Int32))) (L2 := [some (.inr a0), some (.inl a1), some (.inl a2), some (.inl s3_8), some (.inl s4_5), some (.inl (s5_8 + (1 : Int32))), some (.inl (v16 - v17))]) dX7_justMissed_122 (by decide) rfl rfl rfl ?_
                          refine G_goto F (tgt := 36) dX7_justMissed_125 (by decide) ?_
                          cases h
                          exact G_sub F (L2 := [some (.inr a0), some (.inl a1), some (.inl a2), some (.inl s3_8), some (.inl s4_5), some (.inl (s5_8 + (1 : Int32))), none]) ⟨rfl, ⟨rfl, ⟨rfl, ⟨rfl, ⟨rfl, ⟨rfl, trivial⟩⟩⟩⟩⟩⟩ (hP8 _ rfl)
                        · have h := itf c20 h
                          refine G_iload_n F dX7_justMissed_118 rfl ?_
                          refine G_iconst F (v := (1 : Int32)) dX7_justMissed_119 (by decide) ?_
                          refine G_iadd F dX7_justMissed_120 ?_
                          refine G_istore_n F (L2 := [some (.inr a0), some (.inl a1), some (.inl a2), some (.inl (s3_8 + (1 : Int32))), some (.inl s4_5), some (.inl s5_8), some (.inl (v16 - v17))]) dX7_justMissed_121 (by decide) rfl ?_
                          refine G_iinc F (v := (s5_8 + (1 : Int32))) (L2 := [some (.inr a0), some (.inl a1), some (.inl a2), some (.inl (s3_8 + (1 : Int32))), some (.inl s4_5), some (.inl (s5_8 + (1 : Int32))), some (.inl (v16 - v17))]) dX7_justMissed_122 (by decide) rfl rfl rfl ?_
                          refine G_goto F (tgt := 36) dX7_justMissed_125 (by decide) ?_
                          cases h
                          exact G_sub F (L2 := [some (.inr a0), some (.inl a1), some (.inl a2), some (.inl (s3_8 + (1 : Int32))), some (.inl s4_5), some (.inl (s5_8 + (1 : Int32))), none]) ⟨rfl, ⟨rfl, ⟨rfl, ⟨rfl, ⟨rfl, ⟨rfl, trivial⟩⟩⟩⟩⟩⟩ (hP8 _ rfl)
                    have K18o : ∀ o, Sum.inr o = p18 → some o = some o8 := by
                      intro o hq
                      subst hq
                      exact h
                    have h := hp18
                    clear hp18
                    refine G_if_lt F (tgt := 106) dX7_justMissed_94 (by decide) (fun c21 => ?_) (fun c21 => ?_)
                    · have h := itt c21 h
                      have hq_ := Option.some.inj h
                      exact G_sub F (L2 := [some (.inr a0), some (.inl a1), some (.inl a2), some (.inl s3_8), some (.inl s4_5), some (.inl s5_8), some (.inl (v16 - v17))]) ⟨rfl, ⟨rfl, ⟨rfl, ⟨rfl, ⟨rfl, ⟨rfl, ⟨rfl, trivial⟩⟩⟩⟩⟩⟩⟩ (K18 () hq_)
                    · have h := itf c21 h
                      refine G_iload F dX7_justMissed_97 rfl ?_
                      refine G_aload_n F dX7_justMissed_99 rfl ?_
                      obtain ⟨v22, e_v22, h⟩ := bnd h
                      refine G_getI F okX7 (f := 13) (by decide) q1237 rfl dX7_justMissed_100 e_v22 ?_
                      refine G_icmp_lt F (tgt := 118) dX7_justMissed_103 (by decide) (fun c23 => ?_) (fun c23 => ?_)
                      · have h := itt c23 h
                        refine G_iload_n F dX7_justMissed_118 rfl ?_
                        refine G_iconst F (v := (1 : Int32)) dX7_justMissed_119 (by decide) ?_
                        refine G_iadd F dX7_justMissed_120 ?_
                        refine G_istore_n F (L2 := [some (.inr a0), some (.inl a1), some (.inl a2), some (.inl (s3_8 + (1 : Int32))), some (.inl s4_5), some (.inl s5_8), some (.inl (v16 - v17))]) dX7_justMissed_121 (by decide) rfl ?_
                        refine G_iinc F (v := (s5_8 + (1 : Int32))) (L2 := [some (.inr a0), some (.inl a1), some (.inl a2), some (.inl (s3_8 + (1 : Int32))), some (.inl s4_5), some (.inl (s5_8 + (1 : Int32))), some (.inl (v16 - v17))]) dX7_justMissed_122 (by decide) rfl rfl rfl ?_
                        refine G_goto F (tgt := 36) dX7_justMissed_125 (by decide) ?_
                        have hq_ := Option.some.inj h
                        have h := K18o _ hq_
                        cases h
                        exact G_sub F (L2 := [some (.inr a0), some (.inl a1), some (.inl a2), some (.inl (s3_8 + (1 : Int32))), some (.inl s4_5), some (.inl (s5_8 + (1 : Int32))), none]) ⟨rfl, ⟨rfl, ⟨rfl, ⟨rfl, ⟨rfl, ⟨rfl, trivial⟩⟩⟩⟩⟩⟩ (hP8 _ rfl)
                      · have h := itf c23 h
                        have hq_ := Option.some.inj h
                        exact G_sub F (L2 := [some (.inr a0), some (.inl a1), some (.inl a2), some (.inl s3_8), some (.inl s4_5), some (.inl s5_8), some (.inl (v16 - v17))]) ⟨rfl, ⟨rfl, ⟨rfl, ⟨rfl, ⟨rfl, ⟨rfl, ⟨rfl, trivial⟩⟩⟩⟩⟩⟩⟩ (K18 () hq_)
                  · have h := itt c15 h
                    refine G_goto F (tgt := 122) dX7_justMissed_72 (by decide) ?_
                    refine G_iinc F (v := (s5_8 + (1 : Int32))) (L2 := [some (.inr a0), some (.inl a1), some (.inl a2), some (.inl s3_8), some (.inl s4_5), some (.inl (s5_8 + (1 : Int32))), none]) dX7_justMissed_122 (by decide) rfl rfl rfl ?_
                    refine G_goto F (tgt := 36) dX7_justMissed_125 (by decide) ?_
                    cases h
                    exact G_sub F (L2 := [some (.inr a0), some (.inl a1), some (.inl a2), some (.inl s3_8), some (.inl s4_5), some (.inl (s5_8 + (1 : Int32))), none]) ⟨rfl, ⟨rfl, ⟨rfl, ⟨rfl, ⟨rfl, ⟨rfl, trivial⟩⟩⟩⟩⟩⟩ (hP8 _ rfl)
          have hI := iter_ok (fun (s : (Int32 × Int32)) => match s with | (s3_8, s5_8) => G X cx 7 (Qm X cx (some (.inl rv)) m nx 0 0) (0) (0) m (nx) [some (.inr a0), some (.inl a1), some (.inl a2), some (.inl s3_8), some (.inl s4_5), some (.inl s5_8), none] [] 36) (fun q => q = r8) KB8 _ _ _ hr8 rfl
          exact G_sub F (L2 := [some (.inr a0), some (.inl a1), some (.inl a2), some (.inl s3_5), some (.inl s4_5), some (.inl (0 : Int32)), none]) ⟨rfl, ⟨rfl, ⟨rfl, ⟨rfl, ⟨rfl, ⟨rfl, trivial⟩⟩⟩⟩⟩⟩ hI
      have hI := iter_ok (fun (s : (Int32 × Int32)) => match s with | (s3_5, s4_5) => G X cx 7 (Qm X cx (some (.inl rv)) m nx 0 0) (0) (0) m (nx) [some (.inr a0), some (.inl a1), some (.inl a2), some (.inl s3_5), some (.inl s4_5), none, none] [] 24) (fun q => q = r5) KB5 _ _ _ hr5 rfl
      exact G_sub F (L2 := [some (.inr a0), some (.inl a1), some (.inl a2), some (.inl (0 : Int32)), some (.inl (0 : Int32)), none, none]) ⟨rfl, ⟨rfl, ⟨rfl, ⟨rfl, ⟨rfl, trivial⟩⟩⟩⟩⟩ hI
    · have h := itt c4 h
      refine G_iconst F (v := (-1 : Int32)) dX7_justMissed_17 (by decide) ?_
      cases h
      exact G_iret F rfl (Nat.le_refl _) (Nat.le_refl _) rfl dX7_justMissed_18

theorem metX7_platforms (X : Gx) {m : Hp} {nx : Nat} {a0 : Option Nat} {a1 : Int32} {a2 : Int32} {rv : Int32} (h : fX7_platforms m a0 a1 a2 = some rv) : Con X (4) yX7_platforms cX7_platforms 7 ((Option.some FieldType.int)) [.inr a0, .inl a1, .inl a2] m nx (some (.inl rv)) m 0 0 := by
  refine Con.of (own := RX7) (nm := "platforms") (L := [some (.inr a0), some (.inl a1), some (.inl a2), none, none, none, none]) (by decide +kernel) rfl rfl (Nat.le_of_ble_eq_true rfl) (ent_of 4 rfl) ?_
  intro cx F
  refine G_iload_n F dX7_platforms_0 rfl ?_
  obtain ⟨v1, e_v1, h⟩ := bnd h
  refine G_callSv F (As := [.inl a1]) (st := []) (metX7_isStation X e_v1) (lw_S q1433 q1434 q109 q1435) hdfX7_isStation ⟨by omega, by decide⟩ rfl (Nat.le_of_ble_eq_true rfl) ⟨by omega, by omega⟩ dX7_platforms_1 ?_
  refine G_if_eq F (tgt := 17) dX7_platforms_4 (by decide) (fun c2 => ?_) (fun c2 => ?_)
  · have h := itt c2 h
    refine G_iconst F (v := (-1 : Int32)) dX7_platforms_17 (by decide) ?_
    cases h
    exact G_iret F rfl (Nat.le_refl _) (Nat.le_refl _) rfl dX7_platforms_18
  · have h := itf c2 h
    refine G_iload_n F dX7_platforms_7 rfl ?_
    refine G_iconst F (v := (0 : Int32)) dX7_platforms_8 (by decide) ?_
    refine G_bipush F (v := (60 : Int32)) dX7_platforms_9 (by decide) ?_
    obtain ⟨v3, e_v3, h⟩ := bnd h
    refine G_callSv F (As := [.inl a2, .inl (0 : Int32), .inl (60 : Int32)]) (st := []) (metX7_in X e_v3) (lw_S q1427 q1428 q109 q1429) hdfX7_in ⟨by omega, by decide⟩ rfl (Nat.le_of_ble_eq_true rfl) ⟨by omega, by omega⟩ dX7_platforms_11 ?_
    refine G_if_ne F (tgt := 19) dX7_platforms_14 (by decide) (fun c4 => ?_) (fun c4 => ?_)
    · have h := itf c4 h
      refine G_iconst F (v := (0 : Int32)) dX7_platforms_19 (by decide) ?_
      refine G_istore_n F (L2 := [some (.inr a0), some (.inl a1), some (.inl a2), some (.inl (0 : Int32)), none, none, none]) dX7_platforms_20 (by decide) rfl ?_
      refine G_iconst F (v := (0 : Int32)) dX7_platforms_21 (by decide) ?_
      refine G_istore F (L2 := [some (.inr a0), some (.inl a1), some (.inl a2), some (.inl (0 : Int32)), some (.inl (0 : Int32)), none, none]) dX7_platforms_22 (by decide) rfl ?_
      obtain ⟨r5, hr5, h⟩ := bnd h
      have KE5 : ∀ (v25 : Int32), v25 = r5 → G X cx 7 (Qm X cx (some (.inl rv)) m nx 0 0) (0) (0) m (nx) [none, none, none, some (.inl v25), none, none, none] [] 139 := by
        intro v25 hq
        subst hq
        try dsimp only at h
        refine G_iload_n F dX7_platforms_139 rfl ?_
        cases h
        exact G_iret F rfl (Nat.le_refl _) (Nat.le_refl _) rfl dX7_platforms_140
      have KB5 : ∀ s o5, fX7_platforms_L24 m a0 a1 a2 s = some o5 → (∀ s', o5 = Sum.inl s' → (fun (s : (Int32 × Int32)) => match s with | (s3_5, s4_5) => G X cx 7 (Qm X cx (some (.inl rv)) m nx 0 0) (0) (0) m (nx) [some (.inr a0), some (.inl a1), some (.inl a2), some (.inl s3_5), some (.inl s4_5), none, none] [] 24) s') → (∀ q, o5 = Sum.inr q → q = r5) → (fun (s : (Int32 × Int32)) => match s with | (s3_5, s4_5) => G X cx 7 (Qm X cx (some (.inl rv)) m nx 0 0) (0) (0) m (nx) [some (.inr a0), some (.inl a1), some (.inl a2), some (.inl s3_5), some (.inl s4_5), none, none] [] 24) s := by
        intro s o5 h hP5 hE5
        obtain ⟨s3_5, s4_5⟩ := s
        try dsimp only at hP5 hE5 ⊢
        refine G_iload F dX7_platforms_24 rfl ?_
        refine G_aload_n F dX7_platforms_26 rfl ?_
        obtain ⟨v6, e_v6, h⟩ := bnd h
        refine G_getI F okX7 (f := 14) (by decide) q1238 rfl dX7_platforms_27 e_v6 ?_
        refine G_icmp_ge F (tgt := 139) dX7_platforms_30 (by decide) (fun c7 => ?_) (fun c7 => ?_)
        · have h := itt c7 h
          cases h
          exact G_sub F (L2 := [none, none, none, some (.inl s3_5), none, none, none]) ⟨rfl, trivial⟩ (KE5 _ (hE5 _ rfl))
        · have h := itf c7 h
          refine G_aload_n F dX7_platforms_33 rfl ?_
          refine G_iload F dX7_platforms_34 rfl ?_
          obtain ⟨v8, e_v8, h⟩ := bnd h
          obtain ⟨hc_v8, e_v8⟩ := hp_on_of e_v8
          refine G_callVv F (As := [.inl s4_5]) (st := []) (metX7_runs X e_v8) hc_v8 rfl rfl (lw_V q1582 q1584 qs71 q109 q1585) hdfX7_runs ⟨by omega, by decide⟩ rfl (Nat.le_of_ble_eq_true rfl) ⟨by omega, by omega⟩ dX7_platforms_36 ?_
          refine G_if_eq F (tgt := 133) dX7_platforms_39 (by decide) (fun c9 => ?_) (fun c9 => ?_)
          · have h := itt c9 h
            refine G_iinc F (v := (s4_5 + (1 : Int32))) (L2 := [some (.inr a0), some (.inl a1), some (.inl a2), some (.inl s3_5), some (.inl (s4_5 + (1 : Int32))), none, none]) dX7_platforms_133 (by decide) rfl rfl rfl ?_
            refine G_goto F (tgt := 24) dX7_platforms_136 (by decide) ?_
            cases h
            exact G_sub F (L2 := [some (.inr a0), some (.inl a1), some (.inl a2), some (.inl s3_5), some (.inl (s4_5 + (1 : Int32))), none, none]) ⟨rfl, ⟨rfl, ⟨rfl, ⟨rfl, ⟨rfl, trivial⟩⟩⟩⟩⟩ (hP5 _ rfl)
          · have h := itf c9 h
            refine G_aload_n F dX7_platforms_42 rfl ?_
            refine G_iload F dX7_platforms_43 rfl ?_
            refine G_iload_n F dX7_platforms_45 rfl ?_
            obtain ⟨v10, e_v10, h⟩ := bnd h
            obtain ⟨hc_v10, e_v10⟩ := hp_on_of e_v10
            refine G_callVv F (As := [.inl s4_5, .inl a1]) (st := []) (metX7_stopAt X e_v10) hc_v10 rfl rfl (lw_V q1624 q1626 qs79 q109 q1627) hdfX7_stopAt ⟨by omega, by decide⟩ rfl (Nat.le_of_ble_eq_true rfl) ⟨by omega, by omega⟩ dX7_platforms_46 ?_
            refine G_iconst F (v := (-1 : Int32)) dX7_platforms_49 (by decide) ?_
            refine G_icmp_ne F (tgt := 56) dX7_platforms_50 (by decide) (fun c11 => ?_) (fun c11 => ?_)
            · have h := itf c11 h
              refine G_iconst F (v := (0 : Int32)) dX7_platforms_56 (by decide) ?_
              refine G_istore F (L2 := [some (.inr a0), some (.inl a1), some (.inl a2), some (.inl s3_5), some (.inl s4_5), some (.inl (0 : Int32)), none]) dX7_platforms_57 (by decide) rfl ?_
              refine G_iconst F (v := (0 : Int32)) dX7_platforms_59 (by decide) ?_
              refine G_istore F (L2 := [some (.inr a0), some (.inl a1), some (.inl a2), some (.inl s3_5), some (.inl s4_5), some (.inl (0 : Int32)), some (.inl (0 : Int32))]) dX7_platforms_60 (by decide) rfl ?_
              obtain ⟨r12, hr12, h⟩ := bnd h
              have KE12 : ∀ (v23 : Int32), v23 = r12 → G X cx 7 (Qm X cx (some (.inl rv)) m nx 0 0) (0) (0) m (nx) [some (.inr a0), some (.inl a1), some (.inl a2), some (.inl s3_5), some (.inl s4_5), some (.inl v23), none] [] 126 := by
                intro v23 hq
                subst hq
                try dsimp only at h
                refine G_iload_n F dX7_platforms_126 rfl ?_
                refine G_iload F dX7_platforms_127 rfl ?_
                obtain ⟨v24, e_v24, h⟩ := bnd h
                refine G_callSv F (As := [.inl s3_5, .inl v23]) (st := []) (metX7_max X e_v24) (lw_S q1613 q1614 q109 q1615) hdfX7_max ⟨by omega, by decide⟩ rfl (Nat.le_of_ble_eq_true rfl) ⟨by omega, by omega⟩ dX7_platforms_129 ?_
                refine G_istore_n F (L2 := [some (.inr a0), some (.inl a1), some (.inl a2), some (.inl v24), some (.inl s4_5), some (.inl v23), none]) dX7_platforms_132 (by decide) rfl ?_
                refine G_iinc F (v := (s4_5 + (1 : Int32))) (L2 := [some (.inr a0), some (.inl a1), some (.inl a2), some (.inl v24), some (.inl (s4_5 + (1 : Int32))), some (.inl v23), none]) dX7_platforms_133 (by decide) rfl rfl rfl ?_
                refine G_goto F (tgt := 24) dX7_platforms_136 (by decide) ?_
                cases h
                exact G_sub F (L2 := [some (.inr a0), some (.inl a1), some (.inl a2), some (.inl v24), some (.inl (s4_5 + (1 : Int32))), none, none]) ⟨rfl, ⟨rfl, ⟨rfl, ⟨rfl, ⟨rfl, trivial⟩⟩⟩⟩⟩ (hP5 _ rfl)
              have KB12 : ∀ s o12, fX7_platforms_L62 m a0 a1 a2 s3_5 s4_5 s = some o12 → (∀ s', o12 = Sum.inl s' → (fun (s : (Int32 × Int32)) => match s with | (s5_12, s6_12) => G X cx 7 (Qm X cx (some (.inl rv)) m nx 0 0) (0) (0) m (nx) [some (.inr a0), some (.inl a1), some (.inl a2), some (.inl s3_5), some (.inl s4_5), some (.inl s5_12), some (.inl s6_12)] [] 62) s') → (∀ q, o12 = Sum.inr q → q = r12) → (fun (s : (Int32 × Int32)) => match s with | (s5_12, s6_12) => G X cx 7 (Qm X cx (some (.inl rv)) m nx 0 0) (0) (0) m (nx) [some (.inr a0), some (.inl a1), some (.inl a2), some (.inl s3_5), some (.inl s4_5), some (.inl s5_12), some (.inl s6_12)] [] 62) s := by
                intro s o12 h hP12 hE12
                obtain ⟨s5_12, s6_12⟩ := s
                try dsimp only at hP12 hE12 ⊢
                refine G_iload F dX7_platforms_62 rfl ?_
                refine G_aload_n F dX7_platforms_64 rfl ?_
                obtain ⟨v13, e_v13, h⟩ := bnd h
                refine G_getI F okX7 (f := 14) (by decide) q1238 rfl dX7_platforms_65 e_v13 ?_
                refine G_icmp_ge F (tgt := 126) dX7_platforms_68 (by decide) (fun c14 => ?_) (fun c14 => ?_)
                · have h := itt c14 h
                  cases h
                  exact G_sub F (L2 := [some (.inr a0), some (.inl a1), some (.inl a2), some (.inl s3_5), some (.inl s4_5), some (.inl s5_12), none]) ⟨rfl, ⟨rfl, ⟨rfl, ⟨rfl, ⟨rfl, ⟨rfl, trivial⟩⟩⟩⟩⟩⟩ (KE12 _ (hE12 _ rfl))
                · have h := itf c14 h
                  refine G_aload_n F dX7_platforms_71 rfl ?_
                  refine G_iload F dX7_platforms_72 rfl ?_
                  obtain ⟨v15, e_v15, h⟩ := bnd h
                  obtain ⟨hc_v15, e_v15⟩ := hp_on_of e_v15
                  refine G_callVv F (As := [.inl s6_12]) (st := []) (metX7_runs X e_v15) hc_v15 rfl rfl (lw_V q1582 q1584 qs71 q109 q1585) hdfX7_runs ⟨by omega, by decide⟩ rfl (Nat.le_of_ble_eq_true rfl) ⟨by omega, by omega⟩ dX7_platforms_74 ?_
                  refine G_if_eq F (tgt := 120) dX7_platforms_77 (by decide) (fun c16 => ?_) (fun c16 => ?_)
                  · have h := itt c16 h
                    refine G_iinc F (v := (s6_12 + (1 : Int32))) (L2 := [some (.inr a0), some (.inl a1), some (.inl a2), some (.inl s3_5), some (.inl s4_5), some (.inl s5_12), some (.inl (s6_12 + (1 : Int32)))]) dX7_platforms_120 (by decide) rfl rfl rfl ?_
                    refine G_goto F (tgt := 62) dX7_platforms_123 (by decide) ?_
                    cases h
                    exact G_sub F (L2 := [some (.inr a0), some (.inl a1), some (.inl a2), some (.inl s3_5), some (.inl s4_5), some (.inl s5_12), some (.inl (s6_12 + (1 : Int32)))]) ⟨rfl, ⟨rfl, ⟨rfl, ⟨rfl, ⟨rfl, ⟨rfl, ⟨rfl, trivial⟩⟩⟩⟩⟩⟩⟩ (hP12 _ rfl)
                  · have h := itf c16 h
                    refine G_aload_n F dX7_platforms_80 rfl ?_
                    refine G_iload F dX7_platforms_81 rfl ?_
                    refine G_iload_n F dX7_platforms_83 rfl ?_
                    obtain ⟨v17, e_v17, h⟩ := bnd h
                    obtain ⟨hc_v17, e_v17⟩ := hp_on_of e_v17
                    refine G_callVv F (As := [.inl s6_12, .inl a1]) (st := []) (metX7_stopAt X e_v17) hc_v17 rfl rfl (lw_V q1624 q1626 qs79 q109 q1627) hdfX7_stopAt ⟨by omega, by decide⟩ rfl (Nat.le_of_ble_eq_true rfl) ⟨by omega, by omega⟩ dX7_platforms_84 ?_
                    refine G_iconst F (v := (-1 : Int32)) dX7_platforms_87 (by decide) ?_
                    refine G_icmp_eq F (tgt := 120) dX7_platforms_88 (by decide) (fun c18 => ?_) (fun c18 => ?_)
                    · have h := itt c18 h
                      refine G_iinc F (v := (s6_12 + (1 : Int32))) (L2 := [some (.inr a0), some (.inl a1), some (.inl a2), some (.inl s3_5), some (.inl s4_5), some (.inl s5_12), some (.inl (s6_12 + (1 : Int32)))]) dX7_platforms_120 (by decide) rfl rfl rfl ?_
                      refine G_goto F (tgt := 62) dX7_platforms_123 (by decide) ?_
                      cases h
                      exact G_sub F (L2 := [some (.inr a0), some (.inl a1), some (.inl a2), some (.inl s3_5), some (.inl s4_5), some (.inl s5_12), some (.inl (s6_12 + (1 : Int32)))]) ⟨rfl, ⟨rfl, ⟨rfl, ⟨rfl, ⟨rfl, ⟨rfl, ⟨rfl, trivial⟩⟩⟩⟩⟩⟩⟩ (hP12 _ rfl)
                    · have h := itf c18 h
                      refine G_aload_n F dX7_platforms_91 rfl ?_
                      refine G_iload F dX7_platforms_92 rfl ?_
                      refine G_iload_n F dX7_platforms_94 rfl ?_
                      obtain ⟨v19, e_v19, h⟩ := bnd h
                      obtain ⟨hc_v19, e_v19⟩ := hp_on_of e_v19
                      refine G_callVv F (As := [.inl s4_5, .inl a1]) (st := []) (metX7_minuteAt X e_v19) hc_v19 rfl rfl (lw_V q1684 q1686 qs86 q109 q1687) hdfX7_minuteAt ⟨by omega, by decide⟩ rfl (Nat.le_of_ble_eq_true rfl) ⟨by omega, by omega⟩ dX7_platforms_95 ?_
                      refine G_aload_n F dX7_platforms_98 rfl ?_
                      refine G_iload F dX7_platforms_99 rfl ?_
                      refine G_iload_n F dX7_platforms_101 rfl ?_
                      obtain ⟨v20, e_v20, h⟩ := bnd h
                      obtain ⟨hc_v20, e_v20⟩ := hp_on_of e_v20
                      refine G_callVv F (As := [.inl s6_12, .inl a1]) (st := [.inl v19]) (metX7_minuteAt X e_v20) hc_v20 rfl rfl (lw_V q1684 q1686 qs86 q109 q1687) hdfX7_minuteAt ⟨by omega, by decide⟩ rfl (Nat.le_of_ble_eq_true rfl) ⟨by omega, by omega⟩ dX7_platforms_102 ?_
                      refine G_isub F dX7_platforms_105 ?_
                      refine G_iconst F (v := (0 : Int32)) dX7_platforms_106 (by decide) ?_
                      refine G_iload_n F dX7_platforms_107 rfl ?_
                      obtain ⟨v21, e_v21, h⟩ := bnd h
                      refine G_callSv F (As := [.inl (v19 - v20), .inl (0 : Int32), .inl a2]) (st := []) (metX7_in X e_v21) (lw_S q1427 q1428 q109 q1429) hdfX7_in ⟨by omega, by decide⟩ rfl (Nat.le_of_ble_eq_true rfl) ⟨by omega, by omega⟩ dX7_platforms_108 ?_
                      refine G_if_eq F (tgt := 120) dX7_platforms_111 (by decide) (fun c22 => ?_) (fun c22 => ?_)
                      · have h := itt c22 h
                        refine G_iinc F (v := (s6_12 + (1 : Int32))) (L2 := [some (.inr a0), some (.inl a1), some (.inl a2), some (.inl s3_5), some (.inl s4_5), some (.inl s5_12), some (.inl (s6_12 + (1 : Int32)))]) dX7_platforms_120 (by decide) rfl rfl rfl ?_
                        refine G_goto F (tgt := 62) dX7_platforms_123 (by decide) ?_
                        cases h
                        exact G_sub F (L2 := [some (.inr a0), some (.inl a1), some (.inl a2), some (.inl s3_5), some (.inl s4_5), some (.inl s5_12), some (.inl (s6_12 + (1 : Int32)))]) ⟨rfl, ⟨rfl, ⟨rfl, ⟨rfl, ⟨rfl, ⟨rfl, ⟨rfl, trivial⟩⟩⟩⟩⟩⟩⟩ (hP12 _ rfl)
                      · have h := itf c22 h
                        refine G_iload F dX7_platforms_114 rfl ?_
                        refine G_iconst F (v := (1 : Int32)) dX7_platforms_116 (by decide) ?_
                        refine G_iadd F dX7_platforms_117 ?_
                        refine G_istore F (L2 := [some (.inr a0), some (.inl a1), some (.inl a2), some (.inl s3_5), some (.inl s4_5), some (.inl (s5_12 + (1 : Int32))), some (.inl s6_12)]) dX7_platforms_118 (by decide) rfl ?_
                        refine G_iinc F (v := (s6_12 + (1 : Int32))) (L2 := [some (.inr a0), some (.inl a1), some (.inl a2), some (.inl s3_5), some (.inl s4_5), some (.inl (s5_12 + (1 : Int32))), some (.inl (s6_12 + (1 : Int32)))]) dX7_platforms_120 (by decide) rfl rfl rfl ?_
                        refine G_goto F (tgt := 62) dX7_platforms_123 (by decide) ?_
                        cases h
                        exact G_sub F (L2 := [some (.inr a0), some (.inl a1), some (.inl a2), some (.inl s3_5), some (.inl s4_5), some (.inl (s5_12 + (1 : Int32))), some (.inl (s6_12 + (1 : Int32)))]) ⟨rfl, ⟨rfl, ⟨rfl, ⟨rfl, ⟨rfl, ⟨rfl, ⟨rfl, trivial⟩⟩⟩⟩⟩⟩⟩ (hP12 _ rfl)
              have hI := iter_ok (fun (s : (Int32 × Int32)) => match s with | (s5_12, s6_12) => G X cx 7 (Qm X cx (some (.inl rv)) m nx 0 0) (0) (0) m (nx) [some (.inr a0), some (.inl a1), some (.inl a2), some (.inl s3_5), some (.inl s4_5), some (.inl s5_12), some (.inl s6_12)] [] 62) (fun q => q = r12) KB12 _ _ _ hr12 rfl
              exact G_sub F (L2 := [some (.inr a0), some (.inl a1), some (.inl a2), some (.inl s3_5), some (.inl s4_5), some (.inl (0 : Int32)), some (.inl (0 : Int32))]) ⟨rfl, ⟨rfl, ⟨rfl, ⟨rfl, ⟨rfl, ⟨rfl, ⟨rfl, trivial⟩⟩⟩⟩⟩⟩⟩ hI
            · have h := itt c11 h
              refine G_goto F (tgt := 133) dX7_platforms_53 (by decide) ?_
              refine G_iinc F (v := (s4_5 + (1 : Int32))) (L2 := [some (.inr a0), some (.inl a1), some (.inl a2), some (.inl s3_5), some (.inl (s4_5 + (1 : Int32))), none, none]) dX7_platforms_133 (by decide) rfl rfl rfl ?_
              refine G_goto F (tgt := 24) dX7_platforms_136 (by decide) ?_
              cases h
              exact G_sub F (L2 := [some (.inr a0), some (.inl a1), some (.inl a2), some (.inl s3_5), some (.inl (s4_5 + (1 : Int32))), none, none]) ⟨rfl, ⟨rfl, ⟨rfl, ⟨rfl, ⟨rfl, trivial⟩⟩⟩⟩⟩ (hP5 _ rfl)
      have hI := iter_ok (fun (s : (Int32 × Int32)) => match s with | (s3_5, s4_5) => G X cx 7 (Qm X cx (some (.inl rv)) m nx 0 0) (0) (0) m (nx) [some (.inr a0), some (.inl a1), some (.inl a2), some (.inl s3_5), some (.inl s4_5), none, none] [] 24) (fun q => q = r5) KB5 _ _ _ hr5 rfl
      exact G_sub F (L2 := [some (.inr a0), some (.inl a1), some (.inl a2), some (.inl (0 : Int32)), some (.inl (0 : Int32)), none, none]) ⟨rfl, ⟨rfl, ⟨rfl, ⟨rfl, ⟨rfl, trivial⟩⟩⟩⟩⟩ hI
    · have h := itt c4 h
      refine G_iconst F (v := (-1 : Int32)) dX7_platforms_17 (by decide) ?_
      cases h
      exact G_iret F rfl (Nat.le_refl _) (Nat.le_refl _) rfl dX7_platforms_18

theorem metX7_goesOn (X : Gx) {m : Hp} {nx : Nat} {a0 : Option Nat} {a1 : Int32} {a2 : Int32} {rv : Int32} (h : fX7_goesOn m a0 a1 a2 = some rv) : Con X (3) yX7_goesOn cX7_goesOn 3 ((Option.some FieldType.boolean)) [.inr a0, .inl a1, .inl a2] m nx (some (.inl rv)) m 0 0 := by
  refine Con.of (own := RX7) (nm := "goesOn") (L := [some (.inr a0), some (.inl a1), some (.inl a2)]) (by decide +kernel) rfl rfl (Nat.le_of_ble_eq_true rfl) (ent_of 0 rfl) ?_
  intro cx F
  refine G_aload_n F dX7_goesOn_0 rfl ?_
  refine G_iload_n F dX7_goesOn_1 rfl ?_
  obtain ⟨v1, e_v1, h⟩ := bnd h
  obtain ⟨hc_v1, e_v1⟩ := hp_on_of e_v1
  refine G_callVv F (As := [.inl a1]) (st := []) (metX7_runs X e_v1) hc_v1 rfl rfl (lw_V q1582 q1584 qs71 q109 q1585) hdfX7_runs ⟨by omega, by decide⟩ rfl (Nat.le_of_ble_eq_true rfl) ⟨by omega, by omega⟩ dX7_goesOn_2 ?_
  refine G_if_eq F (tgt := 31) dX7_goesOn_5 (by decide) (fun c2 => ?_) (fun c2 => ?_)
  · have h := itt c2 h
    refine G_iconst F (v := (0 : Int32)) dX7_goesOn_31 (by decide) ?_
    cases h
    exact G_zret F rfl (Or.inl rfl) (Nat.le_refl _) (Nat.le_refl _) rfl dX7_goesOn_32
  · have h := itf c2 h
    refine G_aload_n F dX7_goesOn_8 rfl ?_
    refine G_iload_n F dX7_goesOn_9 rfl ?_
    obtain ⟨v3, e_v3, h⟩ := bnd h
    obtain ⟨hc_v3, e_v3⟩ := hp_on_of e_v3
    refine G_callVv F (As := [.inl a2]) (st := []) (metX7_runs X e_v3) hc_v3 rfl rfl (lw_V q1582 q1584 qs71 q109 q1585) hdfX7_runs ⟨by omega, by decide⟩ rfl (Nat.le_of_ble_eq_true rfl) ⟨by omega, by omega⟩ dX7_goesOn_10 ?_
    refine G_if_eq F (tgt := 31) dX7_goesOn_13 (by decide) (fun c4 => ?_) (fun c4 => ?_)
    · have h := itt c4 h
      refine G_iconst F (v := (0 : Int32)) dX7_goesOn_31 (by decide) ?_
      cases h
      exact G_zret F rfl (Or.inl rfl) (Nat.le_refl _) (Nat.le_refl _) rfl dX7_goesOn_32
    · have h := itf c4 h
      refine G_aload_n F dX7_goesOn_16 rfl ?_
      refine G_iload_n F dX7_goesOn_17 rfl ?_
      refine G_iconst F (v := (4 : Int32)) dX7_goesOn_18 (by decide) ?_
      obtain ⟨v5, e_v5, h⟩ := bnd h
      obtain ⟨hc_v5, e_v5⟩ := hp_on_of e_v5
      refine G_callVv F (As := [.inl a1, .inl (4 : Int32)]) (st := []) (metX7_trainIs X e_v5) hc_v5 rfl rfl (lw_V q1744 q1648 q1649 q109 q1650) hdfX7_trainIs ⟨by omega, by decide⟩ rfl (Nat.le_of_ble_eq_true rfl) ⟨by omega, by omega⟩ dX7_goesOn_19 ?_
      refine G_aload_n F dX7_goesOn_22 rfl ?_
      refine G_iload_n F dX7_goesOn_23 rfl ?_
      refine G_iconst F (v := (3 : Int32)) dX7_goesOn_24 (by decide) ?_
      obtain ⟨v6, e_v6, h⟩ := bnd h
      obtain ⟨hc_v6, e_v6⟩ := hp_on_of e_v6
      refine G_callVv F (As := [.inl a2, .inl (3 : Int32)]) (st := [.inl v5]) (metX7_trainIs X e_v6) hc_v6 rfl rfl (lw_V q1744 q1648 q1649 q109 q1650) hdfX7_trainIs ⟨by omega, by decide⟩ rfl (Nat.le_of_ble_eq_true rfl) ⟨by omega, by omega⟩ dX7_goesOn_25 ?_
      refine G_icmp_eq F (tgt := 33) dX7_goesOn_28 (by decide) (fun c7 => ?_) (fun c7 => ?_)
      · have h := itt c7 h
        refine G_aload_n F dX7_goesOn_33 rfl ?_
        refine G_iload_n F dX7_goesOn_34 rfl ?_
        refine G_iconst F (v := (5 : Int32)) dX7_goesOn_35 (by decide) ?_
        obtain ⟨v8, e_v8, h⟩ := bnd h
        obtain ⟨hc_v8, e_v8⟩ := hp_on_of e_v8
        refine G_callVv F (As := [.inl a2, .inl (5 : Int32)]) (st := []) (metX7_trainIs X e_v8) hc_v8 rfl rfl (lw_V q1744 q1648 q1649 q109 q1650) hdfX7_trainIs ⟨by omega, by decide⟩ rfl (Nat.le_of_ble_eq_true rfl) ⟨by omega, by omega⟩ dX7_goesOn_36 ?_
        refine G_aload_n F dX7_goesOn_39 rfl ?_
        refine G_iload_n F dX7_goesOn_40 rfl ?_
        refine G_bipush F (v := (6 : Int32)) dX7_goesOn_41 (by decide) ?_
        obtain ⟨v9, e_v9, h⟩ := bnd h
        obtain ⟨hc_v9, e_v9⟩ := hp_on_of e_v9
        refine G_callVv F (As := [.inl a1, .inl (6 : Int32)]) (st := [.inl v8]) (metX7_trainIs X e_v9) hc_v9 rfl rfl (lw_V q1744 q1648 q1649 q109 q1650) hdfX7_trainIs ⟨by omega, by decide⟩ rfl (Nat.le_of_ble_eq_true rfl) ⟨by omega, by omega⟩ dX7_goesOn_43 ?_
        refine G_aload_n F dX7_goesOn_46 rfl ?_
        obtain ⟨v10, e_v10, h⟩ := bnd h
        refine G_getI F okX7 (f := 13) (by decide) q1237 rfl dX7_goesOn_47 e_v10 ?_
        refine G_iadd F dX7_goesOn_50 ?_
        refine G_icmp_lt F (tgt := 58) dX7_goesOn_51 (by decide) (fun c11 => ?_) (fun c11 => ?_)
        · have h := itt c11 h
          refine G_iconst F (v := (0 : Int32)) dX7_goesOn_58 (by decide) ?_
          cases h
          exact G_zret F rfl (Or.inl rfl) (Nat.le_refl _) (Nat.le_refl _) rfl dX7_goesOn_59
        · have h := itf c11 h
          refine G_iconst F (v := (1 : Int32)) dX7_goesOn_54 (by decide) ?_
          refine G_goto F (tgt := 59) dX7_goesOn_55 (by decide) ?_
          cases h
          exact G_zret F rfl (Or.inr rfl) (Nat.le_refl _) (Nat.le_refl _) rfl dX7_goesOn_59
      · have h := itf c7 h
        refine G_iconst F (v := (0 : Int32)) dX7_goesOn_31 (by decide) ?_
        cases h
        exact G_zret F rfl (Or.inl rfl) (Nat.le_refl _) (Nat.le_refl _) rfl dX7_goesOn_32

theorem metX7_changesAlong (X : Gx) {m : Hp} {nx : Nat} {a0 : Option Nat} {a1 : Int32} {a2 : Int32} {m_ : Hp} (h : fX7_changesAlong m a0 a1 a2 = some m_) : Con X (1) yX7_changesAlong cX7_changesAlong 7 ((none : Option FieldType)) [.inr a0, .inl a1, .inl a2] m nx none m_ 0 0 := by
  refine Con.of (own := RX7) (nm := "changesAlong") (L := [some (.inr a0), some (.inl a1), some (.inl a2), none, none, none, none]) (by decide +kernel) rfl rfl (Nat.le_of_ble_eq_true rfl) (ent_of 4 rfl) ?_
  intro cx F
  refine G_iload_n F dX7_changesAlong_0 rfl ?_
  refine G_istore_n F (L2 := [some (.inr a0), some (.inl a1), some (.inl a2), some (.inl a1), none, none, none]) dX7_changesAlong_1 (by decide) rfl ?_
  obtain ⟨r1, hr1, h⟩ := bnd h
  have KR1 : ∀ q, q = r1 → some q = some m_ := by
    intro q hq
    subst hq
    exact h
  have KB1 : ∀ s o1, fX7_changesAlong_L2 a0 a2 s = some o1 → (∀ s', o1 = Sum.inl s' → (fun (s : (Int32 × Hp)) => match s with | (s3_1, m1) => G X cx 7 (Qm X cx none m_ nx 0 0) (0) (0) m1 (nx) [some (.inr a0), none, some (.inl a2), some (.inl s3_1), none, none, none] [] 2) s') → (∀ q, o1 = Sum.inr q → q = r1) → (fun (s : (Int32 × Hp)) => match s with | (s3_1, m1) => G X cx 7 (Qm X cx none m_ nx 0 0) (0) (0) m1 (nx) [some (.inr a0), none, some (.inl a2), some (.inl s3_1), none, none, none] [] 2) s := by
    intro s o1 h hP1 hE1
    obtain ⟨s3_1, m1⟩ := s
    try dsimp only at hP1 hE1 ⊢
    refine G_aload_n F dX7_changesAlong_2 rfl ?_
    obtain ⟨v2, e_v2, h⟩ := bnd h
    refine G_getR F okX7 (f := 61) (by decide) q1285 rfl dX7_changesAlong_3 e_v2 ?_
    refine G_iload_n F dX7_changesAlong_6 rfl ?_
    obtain ⟨v3, e_v3, h⟩ := bnd h
    refine G_iald F dX7_changesAlong_7 e_v3 ?_
    refine G_istore F (L2 := [some (.inr a0), none, some (.inl a2), some (.inl s3_1), some (.inl v3), none, none]) dX7_changesAlong_8 (by decide) rfl ?_
    refine G_iconst F (v := (-1 : Int32)) dX7_changesAlong_10 (by decide) ?_
    refine G_istore F (L2 := [some (.inr a0), none, some (.inl a2), some (.inl s3_1), some (.inl v3), some (.inl (-1 : Int32)), none]) dX7_changesAlong_11 (by decide) rfl ?_
    refine G_iconst F (v := (0 : Int32)) dX7_changesAlong_13 (by decide) ?_
    refine G_istore F (L2 := [some (.inr a0), none, some (.inl a2), some (.inl s3_1), some (.inl v3), some (.inl (-1 : Int32)), some (.inl (0 : Int32))]) dX7_changesAlong_14 (by decide) rfl ?_
    obtain ⟨r4, hr4, h⟩ := bnd h
    have KE4 : ∀ (v10 : Int32), v10 = r4 → G X cx 7 (Qm X cx none m_ nx 0 0) (0) (0) m1 (nx) [some (.inr a0), none, some (.inl a2), some (.inl s3_1), some (.inl v3), some (.inl v10), none] [] 47 := by
      intro v10 hq
      subst hq
      try dsimp only at h
      refine G_aload_n F dX7_changesAlong_47 rfl ?_
      obtain ⟨v11, e_v11, h⟩ := bnd h
      refine G_getR F okX7 (f := 60) (by decide) q1284 rfl dX7_changesAlong_48 e_v11 ?_
      refine G_iload_n F dX7_changesAlong_51 rfl ?_
      refine G_iload F dX7_changesAlong_52 rfl ?_
      obtain ⟨m12, e_m12, h⟩ := bnd h
      refine G_iast F dX7_changesAlong_54 e_m12 ?_
      refine G_iload F dX7_changesAlong_55 rfl ?_
      refine G_iload_n F dX7_changesAlong_57 rfl ?_
      refine G_icmp_ne F (tgt := 62) dX7_changesAlong_58 (by decide) (fun c13 => ?_) (fun c13 => ?_)
      · have h := itf c13 h
        refine G_iload F dX7_changesAlong_62 rfl ?_
        refine G_istore_n F (L2 := [some (.inr a0), none, some (.inl a2), some (.inl v10), some (.inl v3), some (.inl v10), none]) dX7_changesAlong_64 (by decide) rfl ?_
        refine G_goto F (tgt := 2) dX7_changesAlong_65 (by decide) ?_
        cases h
        exact G_sub F (L2 := [some (.inr a0), none, some (.inl a2), some (.inl v10), none, none, none]) ⟨rfl, ⟨rfl, ⟨rfl, trivial⟩⟩⟩ (hP1 _ rfl)
      · have h := itt c13 h
        cases h
        have h := KR1 _ (hE1 _ rfl)
        cases h
        exact G_vret F rfl (Nat.le_refl _) (Nat.le_refl _) rfl dX7_changesAlong_61
    have KB4 : ∀ s o4, fX7_changesAlong_L16 m1 a0 a2 s3_1 v3 s = some o4 → (∀ s', o4 = Sum.inl s' → (fun (s : (Int32 × Int32)) => match s with | (s5_4, s6_4) => G X cx 7 (Qm X cx none m_ nx 0 0) (0) (0) m1 (nx) [some (.inr a0), none, some (.inl a2), some (.inl s3_1), some (.inl v3), some (.inl s5_4), some (.inl s6_4)] [] 16) s') → (∀ q, o4 = Sum.inr q → q = r4) → (fun (s : (Int32 × Int32)) => match s with | (s5_4, s6_4) => G X cx 7 (Qm X cx none m_ nx 0 0) (0) (0) m1 (nx) [some (.inr a0), none, some (.inl a2), some (.inl s3_1), some (.inl v3), some (.inl s5_4), some (.inl s6_4)] [] 16) s := by
      intro s o4 h hP4 hE4
      obtain ⟨s5_4, s6_4⟩ := s
      try dsimp only at hP4 hE4 ⊢
      refine G_iload F dX7_changesAlong_16 rfl ?_
      refine G_aload_n F dX7_changesAlong_18 rfl ?_
      obtain ⟨v5, e_v5, h⟩ := bnd h
      refine G_getI F okX7 (f := 14) (by decide) q1238 rfl dX7_changesAlong_19 e_v5 ?_
      refine G_icmp_ge F (tgt := 47) dX7_changesAlong_22 (by decide) (fun c6 => ?_) (fun c6 => ?_)
      · have h := itt c6 h
        cases h
        exact G_sub F (L2 := [some (.inr a0), none, some (.inl a2), some (.inl s3_1), some (.inl v3), some (.inl s5_4), none]) ⟨rfl, ⟨rfl, ⟨rfl, ⟨rfl, ⟨rfl, trivial⟩⟩⟩⟩⟩ (KE4 _ (hE4 _ rfl))
      · have h := itf c6 h
        refine G_aload_n F dX7_changesAlong_25 rfl ?_
        obtain ⟨v7, e_v7, h⟩ := bnd h
        refine G_getR F okX7 (f := 60) (by decide) q1284 rfl dX7_changesAlong_26 e_v7 ?_
        refine G_iload F dX7_changesAlong_29 rfl ?_
        obtain ⟨v8, e_v8, h⟩ := bnd h
        refine G_iald F dX7_changesAlong_31 e_v8 ?_
        refine G_iload F dX7_changesAlong_32 rfl ?_
        refine G_icmp_ne F (tgt := 41) dX7_changesAlong_34 (by decide) (fun c9 => ?_) (fun c9 => ?_)
        · have h := itf c9 h
          refine G_iinc F (v := (s6_4 + (1 : Int32))) (L2 := [some (.inr a0), none, some (.inl a2), some (.inl s3_1), some (.inl v3), some (.inl s5_4), some (.inl (s6_4 + (1 : Int32)))]) dX7_changesAlong_41 (by decide) rfl rfl rfl ?_
          refine G_goto F (tgt := 16) dX7_changesAlong_44 (by decide) ?_
          cases h
          exact G_sub F (L2 := [some (.inr a0), none, some (.inl a2), some (.inl s3_1), some (.inl v3), some (.inl s5_4), some (.inl (s6_4 + (1 : Int32)))]) ⟨rfl, ⟨rfl, ⟨rfl, ⟨rfl, ⟨rfl, ⟨rfl, trivial⟩⟩⟩⟩⟩⟩ (hP4 _ rfl)
        · have h := itt c9 h
          refine G_iload F dX7_changesAlong_37 rfl ?_
          refine G_istore F (L2 := [some (.inr a0), none, some (.inl a2), some (.inl s3_1), some (.inl v3), some (.inl s6_4), some (.inl s6_4)]) dX7_changesAlong_39 (by decide) rfl ?_
          refine G_iinc F (v := (s6_4 + (1 : Int32))) (L2 := [some (.inr a0), none, some (.inl a2), some (.inl s3_1), some (.inl v3), some (.inl s6_4), some (.inl (s6_4 + (1 : Int32)))]) dX7_changesAlong_41 (by decide) rfl rfl rfl ?_
          refine G_goto F (tgt := 16) dX7_changesAlong_44 (by decide) ?_
          cases h
          exact G_sub F (L2 := [some (.inr a0), none, some (.inl a2), some (.inl s3_1), some (.inl v3), some (.inl s6_4), some (.inl (s6_4 + (1 : Int32)))]) ⟨rfl, ⟨rfl, ⟨rfl, ⟨rfl, ⟨rfl, ⟨rfl, trivial⟩⟩⟩⟩⟩⟩ (hP4 _ rfl)
    have hI := iter_ok (fun (s : (Int32 × Int32)) => match s with | (s5_4, s6_4) => G X cx 7 (Qm X cx none m_ nx 0 0) (0) (0) m1 (nx) [some (.inr a0), none, some (.inl a2), some (.inl s3_1), some (.inl v3), some (.inl s5_4), some (.inl s6_4)] [] 16) (fun q => q = r4) KB4 _ _ _ hr4 rfl
    exact G_sub F (L2 := [some (.inr a0), none, some (.inl a2), some (.inl s3_1), some (.inl v3), some (.inl (-1 : Int32)), some (.inl (0 : Int32))]) ⟨rfl, ⟨rfl, ⟨rfl, ⟨rfl, ⟨rfl, ⟨rfl, trivial⟩⟩⟩⟩⟩⟩ hI
  have hI := iter_ok (fun (s : (Int32 × Hp)) => match s with | (s3_1, m1) => G X cx 7 (Qm X cx none m_ nx 0 0) (0) (0) m1 (nx) [some (.inr a0), none, some (.inl a2), some (.inl s3_1), none, none, none] [] 2) (fun q => q = r1) KB1 _ _ _ hr1 rfl
  exact G_sub F (L2 := [some (.inr a0), none, some (.inl a2), some (.inl a1), none, none, none]) ⟨rfl, ⟨rfl, ⟨rfl, trivial⟩⟩⟩ hI

theorem metX7_findsNext (X : Gx) {m : Hp} {nx : Nat} {a0 : Option Nat} {a1 : Int32} {rv : Int32} {m_ : Hp} (h : fX7_findsNext m a0 a1 = some (rv, m_)) : Con X (4) yX7_findsNext cX7_findsNext 6 ((Option.some FieldType.boolean)) [.inr a0, .inl a1] m nx (some (.inl rv)) m_ 0 0 := by
  refine Con.of (own := RX7) (nm := "findsNext") (L := [some (.inr a0), some (.inl a1), none, none, none, none]) (by decide +kernel) rfl rfl (Nat.le_of_ble_eq_true rfl) (ent_of 4 rfl) ?_
  intro cx F
  refine G_iconst F (v := (0 : Int32)) dX7_findsNext_0 (by decide) ?_
  refine G_istore_n F (L2 := [some (.inr a0), some (.inl a1), some (.inl (0 : Int32)), none, none, none]) dX7_findsNext_1 (by decide) rfl ?_
  obtain ⟨r1, hr1, h⟩ := bnd h
  have KE1 : ∀ (m6 : Hp), m6 = r1 → G X cx 6 (Qm X cx (some (.inl rv)) m_ nx 0 0) (0) (0) m6 (nx) [some (.inr a0), some (.inl a1), none, none, none, none] [] 23 := by
    intro m6 hq
    subst hq
    try dsimp only at h
    refine G_aload_n F dX7_findsNext_23 rfl ?_
    obtain ⟨v7, e_v7, h⟩ := bnd h
    refine G_getR F okX7 (f := 62) (by decide) q1286 rfl dX7_findsNext_24 e_v7 ?_
    refine G_iconst F (v := (0 : Int32)) dX7_findsNext_27 (by decide) ?_
    refine G_iload_n F dX7_findsNext_28 rfl ?_
    obtain ⟨m8, e_m8, h⟩ := bnd h
    refine G_iast F dX7_findsNext_29 e_m8 ?_
    refine G_iconst F (v := (1 : Int32)) dX7_findsNext_30 (by decide) ?_
    refine G_istore_n F (L2 := [some (.inr a0), some (.inl a1), some (.inl (1 : Int32)), none, none, none]) dX7_findsNext_31 (by decide) rfl ?_
    refine G_iconst F (v := (0 : Int32)) dX7_findsNext_32 (by decide) ?_
    refine G_istore_n F (L2 := [some (.inr a0), some (.inl a1), some (.inl (1 : Int32)), some (.inl (0 : Int32)), none, none]) dX7_findsNext_33 (by decide) rfl ?_
    obtain ⟨r9, hr9, h⟩ := bnd h
    have KE9 : ∀ (m33 : Hp), Sum.inl m33 = r9 → G X cx 6 (Qm X cx (some (.inl rv)) m_ nx 0 0) (0) (0) m33 (nx) [none, none, none, none, none, none] [] 142 := by
      intro m33 hq
      subst hq
      try dsimp only at h
      refine G_iconst F (v := (0 : Int32)) dX7_findsNext_142 (by decide) ?_
      cases h
      exact G_zret F rfl (Or.inl rfl) (Nat.le_refl _) (Nat.le_refl _) rfl dX7_findsNext_143
    have KR9 : ∀ q, Sum.inr q = r9 → some q = some (rv, m_) := by
      intro q hq
      subst hq
      exact h
    have KB9 : ∀ s o9, fX7_findsNext_L34 a0 a1 s = some o9 → (∀ s', o9 = Sum.inl s' → (fun (s : (Int32 × Int32 × Hp)) => match s with | (s2_9, s3_9, m9) => G X cx 6 (Qm X cx (some (.inl rv)) m_ nx 0 0) (0) (0) m9 (nx) [some (.inr a0), some (.inl a1), some (.inl s2_9), some (.inl s3_9), none, none] [] 34) s') → (∀ q, o9 = Sum.inr q → q = r9) → (fun (s : (Int32 × Int32 × Hp)) => match s with | (s2_9, s3_9, m9) => G X cx 6 (Qm X cx (some (.inl rv)) m_ nx 0 0) (0) (0) m9 (nx) [some (.inr a0), some (.inl a1), some (.inl s2_9), some (.inl s3_9), none, none] [] 34) s := by
      intro s o9 h hP9 hE9
      obtain ⟨s2_9, s3_9, m9⟩ := s
      try dsimp only at hP9 hE9 ⊢
      refine G_iload_n F dX7_findsNext_34 rfl ?_
      refine G_iload_n F dX7_findsNext_35 rfl ?_
      refine G_icmp_ge F (tgt := 142) dX7_findsNext_36 (by decide) (fun c10 => ?_) (fun c10 => ?_)
      · have h := itt c10 h
        cases h
        exact G_sub F (L2 := [none, none, none, none, none, none]) trivial (KE9 _ (hE9 _ rfl))
      · have h := itf c10 h
        refine G_aload_n F dX7_findsNext_39 rfl ?_
        obtain ⟨v11, e_v11, h⟩ := bnd h
        refine G_getR F okX7 (f := 62) (by decide) q1286 rfl dX7_findsNext_40 e_v11 ?_
        refine G_iload_n F dX7_findsNext_43 rfl ?_
        obtain ⟨v12, e_v12, h⟩ := bnd h
        refine G_iald F dX7_findsNext_44 e_v12 ?_
        refine G_istore F (L2 := [some (.inr a0), some (.inl a1), some (.inl s2_9), some (.inl s3_9), some (.inl v12), none]) dX7_findsNext_45 (by decide) rfl ?_
        refine G_iconst F (v := (0 : Int32)) dX7_findsNext_47 (by decide) ?_
        refine G_istore F (L2 := [some (.inr a0), some (.inl a1), some (.inl s2_9), some (.inl s3_9), some (.inl v12), some (.inl (0 : Int32))]) dX7_findsNext_48 (by decide) rfl ?_
        obtain ⟨r13, hr13, h⟩ := bnd h
        have KE13 : ∀ (v31 : Int32) (m32 : Hp), Sum.inl (v31, m32) = r13 → G X cx 6 (Qm X cx (some (.inl rv)) m_ nx 0 0) (0) (0) m32 (nx) [some (.inr a0), some (.inl a1), some (.inl v31), some (.inl s3_9), none, none] [] 136 := by
          intro v31 m32 hq
          subst hq
          try dsimp only at h
          refine G_iinc F (v := (s3_9 + (1 : Int32))) (L2 := [some (.inr a0), some (.inl a1), some (.inl v31), some (.inl (s3_9 + (1 : Int32))), none, none]) dX7_findsNext_136 (by decide) rfl rfl rfl ?_
          refine G_goto F (tgt := 34) dX7_findsNext_139 (by decide) ?_
          cases h
          exact G_sub F (L2 := [some (.inr a0), some (.inl a1), some (.inl v31), some (.inl (s3_9 + (1 : Int32))), none, none]) ⟨rfl, ⟨rfl, ⟨rfl, ⟨rfl, trivial⟩⟩⟩⟩ (hP9 _ rfl)
        have KR13 : ∀ q, Sum.inr q = r13 → some q = some o9 := by
          intro q hq
          subst hq
          exact h
        have KB13 : ∀ s o13, fX7_findsNext_L50 a0 a1 s3_9 v12 s = some o13 → (∀ s', o13 = Sum.inl s' → (fun (s : (Int32 × Int32 × Hp)) => match s with | (s2_13, s5_13, m13) => G X cx 6 (Qm X cx (some (.inl rv)) m_ nx 0 0) (0) (0) m13 (nx) [some (.inr a0), some (.inl a1), some (.inl s2_13), some (.inl s3_9), some (.inl v12), some (.inl s5_13)] [] 50) s') → (∀ q, o13 = Sum.inr q → q = r13) → (fun (s : (Int32 × Int32 × Hp)) => match s with | (s2_13, s5_13, m13) => G X cx 6 (Qm X cx (some (.inl rv)) m_ nx 0 0) (0) (0) m13 (nx) [some (.inr a0), some (.inl a1), some (.inl s2_13), some (.inl s3_9), some (.inl v12), some (.inl s5_13)] [] 50) s := by
          intro s o13 h hP13 hE13
          obtain ⟨s2_13, s5_13, m13⟩ := s
          try dsimp only at hP13 hE13 ⊢
          refine G_iload F dX7_findsNext_50 rfl ?_
          refine G_aload_n F dX7_findsNext_52 rfl ?_
          obtain ⟨v14, e_v14, h⟩ := bnd h
          refine G_getI F okX7 (f := 14) (by decide) q1238 rfl dX7_findsNext_53 e_v14 ?_
          refine G_icmp_ge F (tgt := 136) dX7_findsNext_56 (by decide) (fun c15 => ?_) (fun c15 => ?_)
          · have h := itt c15 h
            cases h
            exact G_sub F (L2 := [some (.inr a0), some (.inl a1), some (.inl s2_13), some (.inl s3_9), none, none]) ⟨rfl, ⟨rfl, ⟨rfl, ⟨rfl, trivial⟩⟩⟩⟩ (KE13 _ _ (hE13 _ rfl))
          · have h := itf c15 h
            refine G_aload_n F dX7_findsNext_59 rfl ?_
            obtain ⟨v16, e_v16, h⟩ := bnd h
            refine G_getR F okX7 (f := 61) (by decide) q1285 rfl dX7_findsNext_60 e_v16 ?_
            refine G_iload F dX7_findsNext_63 rfl ?_
            obtain ⟨v17, e_v17, h⟩ := bnd h
            refine G_iald F dX7_findsNext_65 e_v17 ?_
            refine G_iconst F (v := (-1 : Int32)) dX7_findsNext_66 (by decide) ?_
            refine G_icmp_ne F (tgt := 130) dX7_findsNext_67 (by decide) (fun c18 => ?_) (fun c18 => ?_)
            · have h := itf c18 h
              refine G_iinc F (v := (s5_13 + (1 : Int32))) (L2 := [some (.inr a0), some (.inl a1), some (.inl s2_13), some (.inl s3_9), some (.inl v12), some (.inl (s5_13 + (1 : Int32)))]) dX7_findsNext_130 (by decide) rfl rfl rfl ?_
              refine G_goto F (tgt := 50) dX7_findsNext_133 (by decide) ?_
              cases h
              exact G_sub F (L2 := [some (.inr a0), some (.inl a1), some (.inl s2_13), some (.inl s3_9), some (.inl v12), some (.inl (s5_13 + (1 : Int32)))]) ⟨rfl, ⟨rfl, ⟨rfl, ⟨rfl, ⟨rfl, ⟨rfl, trivial⟩⟩⟩⟩⟩⟩ (hP13 _ rfl)
            · have h := itt c18 h
              refine G_aload_n F dX7_findsNext_70 rfl ?_
              refine G_iload F dX7_findsNext_71 rfl ?_
              refine G_iload F dX7_findsNext_73 rfl ?_
              obtain ⟨v19, e_v19, h⟩ := bnd h
              obtain ⟨hc_v19, e_v19⟩ := hp_on_of e_v19
              refine G_callVv F (As := [.inl v12, .inl s5_13]) (st := []) (metX7_goesOn X e_v19) hc_v19 rfl rfl (lw_V q1740 q1742 qs93 q109 q1743) hdfX7_goesOn ⟨by omega, by decide⟩ rfl (Nat.le_of_ble_eq_true rfl) ⟨by omega, by omega⟩ dX7_findsNext_75 ?_
              refine G_if_ne F (tgt := 84) dX7_findsNext_78 (by decide) (fun c20 => ?_) (fun c20 => ?_)
              · have h := itf c20 h
                refine G_aload_n F dX7_findsNext_84 rfl ?_
                obtain ⟨v21, e_v21, h⟩ := bnd h
                refine G_getR F okX7 (f := 61) (by decide) q1285 rfl dX7_findsNext_85 e_v21 ?_
                refine G_iload F dX7_findsNext_88 rfl ?_
                refine G_iload F dX7_findsNext_90 rfl ?_
                obtain ⟨m22, e_m22, h⟩ := bnd h
                refine G_iast F dX7_findsNext_92 e_m22 ?_
                refine G_aload_n F dX7_findsNext_93 rfl ?_
                obtain ⟨v23, e_v23, h⟩ := bnd h
                refine G_getR F okX7 (f := 60) (by decide) q1284 rfl dX7_findsNext_94 e_v23 ?_
                refine G_iload F dX7_findsNext_97 rfl ?_
                obtain ⟨v24, e_v24, h⟩ := bnd h
                refine G_iald F dX7_findsNext_99 e_v24 ?_
                refine G_iconst F (v := (-1 : Int32)) dX7_findsNext_100 (by decide) ?_
                refine G_icmp_ne F (tgt := 113) dX7_findsNext_101 (by decide) (fun c25 => ?_) (fun c25 => ?_)
                · have h := itf c25 h
                  refine G_aload_n F dX7_findsNext_113 rfl ?_
                  obtain ⟨v26, e_v26, h⟩ := bnd h
                  refine G_getR F okX7 (f := 62) (by decide) q1286 rfl dX7_findsNext_114 e_v26 ?_
                  refine G_iload_n F dX7_findsNext_117 rfl ?_
                  refine G_aload_n F dX7_findsNext_118 rfl ?_
                  obtain ⟨v27, e_v27, h⟩ := bnd h
                  refine G_getR F okX7 (f := 60) (by decide) q1284 rfl dX7_findsNext_119 e_v27 ?_
                  refine G_iload F dX7_findsNext_122 rfl ?_
                  obtain ⟨v28, e_v28, h⟩ := bnd h
                  refine G_iald F dX7_findsNext_124 e_v28 ?_
                  obtain ⟨m29, e_m29, h⟩ := bnd h
                  refine G_iast F dX7_findsNext_125 e_m29 ?_
                  refine G_iload_n F dX7_findsNext_126 rfl ?_
                  refine G_iconst F (v := (1 : Int32)) dX7_findsNext_127 (by decide) ?_
                  refine G_iadd F dX7_findsNext_128 ?_
                  refine G_istore_n F (L2 := [some (.inr a0), some (.inl a1), some (.inl (s2_13 + (1 : Int32))), some (.inl s3_9), some (.inl v12), some (.inl s5_13)]) dX7_findsNext_129 (by decide) rfl ?_
                  refine G_iinc F (v := (s5_13 + (1 : Int32))) (L2 := [some (.inr a0), some (.inl a1), some (.inl (s2_13 + (1 : Int32))), some (.inl s3_9), some (.inl v12), some (.inl (s5_13 + (1 : Int32)))]) dX7_findsNext_130 (by decide) rfl rfl rfl ?_
                  refine G_goto F (tgt := 50) dX7_findsNext_133 (by decide) ?_
                  cases h
                  exact G_sub F (L2 := [some (.inr a0), some (.inl a1), some (.inl (s2_13 + (1 : Int32))), some (.inl s3_9), some (.inl v12), some (.inl (s5_13 + (1 : Int32)))]) ⟨rfl, ⟨rfl, ⟨rfl, ⟨rfl, ⟨rfl, ⟨rfl, trivial⟩⟩⟩⟩⟩⟩ (hP13 _ rfl)
                · have h := itt c25 h
                  refine G_aload_n F dX7_findsNext_104 rfl ?_
                  refine G_iload F dX7_findsNext_105 rfl ?_
                  refine G_iload_n F dX7_findsNext_107 rfl ?_
                  obtain ⟨m30, e_m30, h⟩ := bnd h
                  obtain ⟨hc_m30, e_m30⟩ := hp_on_of e_m30
                  refine G_callV0 F (As := [.inl s5_13, .inl a1]) (st := []) (metX7_changesAlong X e_m30) hc_m30 rfl rfl (lw_V q1745 q1747 qs94 q109 q1748) hdfX7_changesAlong ⟨by omega, by decide⟩ rfl (Nat.le_of_ble_eq_true rfl) ⟨by omega, by omega⟩ dX7_findsNext_108 ?_
                  refine G_iconst F (v := (1 : Int32)) dX7_findsNext_111 (by decide) ?_
                  cases h
                  have h := KR13 _ (hE13 _ rfl)
                  cases h
                  have h := KR9 _ (hE9 _ rfl)
                  cases h
                  exact G_zret F rfl (Or.inr rfl) (Nat.le_refl _) (Nat.le_refl _) rfl dX7_findsNext_112
              · have h := itt c20 h
                refine G_goto F (tgt := 130) dX7_findsNext_81 (by decide) ?_
                refine G_iinc F (v := (s5_13 + (1 : Int32))) (L2 := [some (.inr a0), some (.inl a1), some (.inl s2_13), some (.inl s3_9), some (.inl v12), some (.inl (s5_13 + (1 : Int32)))]) dX7_findsNext_130 (by decide) rfl rfl rfl ?_
                refine G_goto F (tgt := 50) dX7_findsNext_133 (by decide) ?_
                cases h
                exact G_sub F (L2 := [some (.inr a0), some (.inl a1), some (.inl s2_13), some (.inl s3_9), some (.inl v12), some (.inl (s5_13 + (1 : Int32)))]) ⟨rfl, ⟨rfl, ⟨rfl, ⟨rfl, ⟨rfl, ⟨rfl, trivial⟩⟩⟩⟩⟩⟩ (hP13 _ rfl)
        have hI := iter_ok (fun (s : (Int32 × Int32 × Hp)) => match s with | (s2_13, s5_13, m13) => G X cx 6 (Qm X cx (some (.inl rv)) m_ nx 0 0) (0) (0) m13 (nx) [some (.inr a0), some (.inl a1), some (.inl s2_13), some (.inl s3_9), some (.inl v12), some (.inl s5_13)] [] 50) (fun q => q = r13) KB13 _ _ _ hr13 rfl
        exact G_sub F (L2 := [some (.inr a0), some (.inl a1), some (.inl s2_9), some (.inl s3_9), some (.inl v12), some (.inl (0 : Int32))]) ⟨rfl, ⟨rfl, ⟨rfl, ⟨rfl, ⟨rfl, ⟨rfl, trivial⟩⟩⟩⟩⟩⟩ hI
    have hI := iter_ok (fun (s : (Int32 × Int32 × Hp)) => match s with | (s2_9, s3_9, m9) => G X cx 6 (Qm X cx (some (.inl rv)) m_ nx 0 0) (0) (0) m9 (nx) [some (.inr a0), some (.inl a1), some (.inl s2_9), some (.inl s3_9), none, none] [] 34) (fun q => q = r9) KB9 _ _ _ hr9 rfl
    exact G_sub F (L2 := [some (.inr a0), some (.inl a1), some (.inl (1 : Int32)), some (.inl (0 : Int32)), none, none]) ⟨rfl, ⟨rfl, ⟨rfl, ⟨rfl, trivial⟩⟩⟩⟩ hI
  have KB1 : ∀ s o1, fX7_findsNext_L2 a0 a1 s = some o1 → (∀ s', o1 = Sum.inl s' → (fun (s : (Int32 × Hp)) => match s with | (s2_1, m1) => G X cx 6 (Qm X cx (some (.inl rv)) m_ nx 0 0) (0) (0) m1 (nx) [some (.inr a0), some (.inl a1), some (.inl s2_1), none, none, none] [] 2) s') → (∀ q, o1 = Sum.inr q → q = r1) → (fun (s : (Int32 × Hp)) => match s with | (s2_1, m1) => G X cx 6 (Qm X cx (some (.inl rv)) m_ nx 0 0) (0) (0) m1 (nx) [some (.inr a0), some (.inl a1), some (.inl s2_1), none, none, none] [] 2) s := by
    intro s o1 h hP1 hE1
    obtain ⟨s2_1, m1⟩ := s
    try dsimp only at hP1 hE1 ⊢
    refine G_iload_n F dX7_findsNext_2 rfl ?_
    refine G_aload_n F dX7_findsNext_3 rfl ?_
    obtain ⟨v2, e_v2, h⟩ := bnd h
    refine G_getI F okX7 (f := 14) (by decide) q1238 rfl dX7_findsNext_4 e_v2 ?_
    refine G_icmp_ge F (tgt := 23) dX7_findsNext_7 (by decide) (fun c3 => ?_) (fun c3 => ?_)
    · have h := itt c3 h
      cases h
      exact G_sub F (L2 := [some (.inr a0), some (.inl a1), none, none, none, none]) ⟨rfl, ⟨rfl, trivial⟩⟩ (KE1 _ (hE1 _ rfl))
    · have h := itf c3 h
      refine G_aload_n F dX7_findsNext_10 rfl ?_
      obtain ⟨v4, e_v4, h⟩ := bnd h
      refine G_getR F okX7 (f := 61) (by decide) q1285 rfl dX7_findsNext_11 e_v4 ?_
      refine G_iload_n F dX7_findsNext_14 rfl ?_
      refine G_iconst F (v := (-1 : Int32)) dX7_findsNext_15 (by decide) ?_
      obtain ⟨m5, e_m5, h⟩ := bnd h
      refine G_iast F dX7_findsNext_16 e_m5 ?_
      refine G_iinc F (v := (s2_1 + (1 : Int32))) (L2 := [some (.inr a0), some (.inl a1), some (.inl (s2_1 + (1 : Int32))), none, none, none]) dX7_findsNext_17 (by decide) rfl rfl rfl ?_
      refine G_goto F (tgt := 2) dX7_findsNext_20 (by decide) ?_
      cases h
      exact G_sub F (L2 := [some (.inr a0), some (.inl a1), some (.inl (s2_1 + (1 : Int32))), none, none, none]) ⟨rfl, ⟨rfl, ⟨rfl, trivial⟩⟩⟩ (hP1 _ rfl)
  have hI := iter_ok (fun (s : (Int32 × Hp)) => match s with | (s2_1, m1) => G X cx 6 (Qm X cx (some (.inl rv)) m_ nx 0 0) (0) (0) m1 (nx) [some (.inr a0), some (.inl a1), some (.inl s2_1), none, none, none] [] 2) (fun q => q = r1) KB1 _ _ _ hr1 rfl
  exact G_sub F (L2 := [some (.inr a0), some (.inl a1), some (.inl (0 : Int32)), none, none, none]) ⟨rfl, ⟨rfl, ⟨rfl, trivial⟩⟩⟩ hI

theorem metX7_sets (X : Gx) {m : Hp} {nx : Nat} {a0 : Option Nat} {rv : Int32} {m_ : Hp} (h : fX7_sets m a0 = some (rv, m_)) : Con X (5) yX7_sets cX7_sets 3 ((Option.some FieldType.int)) [.inr a0] m nx (some (.inl rv)) m_ 0 0 := by
  refine Con.of (own := RX7) (nm := "sets") (L := [some (.inr a0), none, none]) (by decide +kernel) rfl rfl (Nat.le_of_ble_eq_true rfl) (ent_of 2 rfl) ?_
  intro cx F
  refine G_iconst F (v := (0 : Int32)) dX7_sets_0 (by decide) ?_
  refine G_istore_n F (L2 := [some (.inr a0), some (.inl (0 : Int32)), none]) dX7_sets_1 (by decide) rfl ?_
  refine G_iconst F (v := (0 : Int32)) dX7_sets_2 (by decide) ?_
  refine G_istore_n F (L2 := [some (.inr a0), some (.inl (0 : Int32)), some (.inl (0 : Int32))]) dX7_sets_3 (by decide) rfl ?_
  obtain ⟨r1, hr1, h⟩ := bnd h
  have KE1 : ∀ (m5 : Hp), m5 = r1 → G X cx 3 (Qm X cx (some (.inl rv)) m_ nx 0 0) (0) (0) m5 (nx) [some (.inr a0), some (.inl (0 : Int32)), none] [] 23 := by
    intro m5 hq
    subst hq
    try dsimp only at h
    refine G_iconst F (v := (0 : Int32)) dX7_sets_23 (by decide) ?_
    refine G_istore_n F (L2 := [some (.inr a0), some (.inl (0 : Int32)), some (.inl (0 : Int32))]) dX7_sets_24 (by decide) rfl ?_
    obtain ⟨r6, hr6, h⟩ := bnd h
    have KE6 : ∀ (v14 : Int32) (m15 : Hp), (v14, m15) = r6 → G X cx 3 (Qm X cx (some (.inl rv)) m_ nx 0 0) (0) (0) m15 (nx) [none, some (.inl v14), none] [] 66 := by
      intro v14 m15 hq
      subst hq
      try dsimp only at h
      refine G_iload_n F dX7_sets_66 rfl ?_
      cases h
      exact G_iret F rfl (Nat.le_refl _) (Nat.le_refl _) rfl dX7_sets_67
    have KB6 : ∀ s o6, fX7_sets_L25 a0 s = some o6 → (∀ s', o6 = Sum.inl s' → (fun (s : (Int32 × Int32 × Hp)) => match s with | (s1_6, s2_6, m6) => G X cx 3 (Qm X cx (some (.inl rv)) m_ nx 0 0) (0) (0) m6 (nx) [some (.inr a0), some (.inl s1_6), some (.inl s2_6)] [] 25) s') → (∀ q, o6 = Sum.inr q → q = r6) → (fun (s : (Int32 × Int32 × Hp)) => match s with | (s1_6, s2_6, m6) => G X cx 3 (Qm X cx (some (.inl rv)) m_ nx 0 0) (0) (0) m6 (nx) [some (.inr a0), some (.inl s1_6), some (.inl s2_6)] [] 25) s := by
      intro s o6 h hP6 hE6
      obtain ⟨s1_6, s2_6, m6⟩ := s
      try dsimp only at hP6 hE6 ⊢
      refine G_iload_n F dX7_sets_25 rfl ?_
      refine G_aload_n F dX7_sets_26 rfl ?_
      obtain ⟨v7, e_v7, h⟩ := bnd h
      refine G_getI F okX7 (f := 14) (by decide) q1238 rfl dX7_sets_27 e_v7 ?_
      refine G_icmp_ge F (tgt := 66) dX7_sets_30 (by decide) (fun c8 => ?_) (fun c8 => ?_)
      · have h := itt c8 h
        cases h
        exact G_sub F (L2 := [none, some (.inl s1_6), none]) ⟨rfl, trivial⟩ (KE6 _ _ (hE6 _ rfl))
      · have h := itf c8 h
        refine G_aload_n F dX7_sets_33 rfl ?_
        refine G_iload_n F dX7_sets_34 rfl ?_
        obtain ⟨v9, e_v9, h⟩ := bnd h
        obtain ⟨hc_v9, e_v9⟩ := hp_on_of e_v9
        refine G_callVv F (As := [.inl s2_6]) (st := []) (metX7_runs X e_v9) hc_v9 rfl rfl (lw_V q1582 q1584 qs71 q109 q1585) hdfX7_runs ⟨by omega, by decide⟩ rfl (Nat.le_of_ble_eq_true rfl) ⟨by omega, by omega⟩ dX7_sets_35 ?_
        refine G_if_ne F (tgt := 44) dX7_sets_38 (by decide) (fun c10 => ?_) (fun c10 => ?_)
        · have h := itf c10 h
          refine G_iload_n F dX7_sets_44 rfl ?_
          refine G_iconst F (v := (1 : Int32)) dX7_sets_45 (by decide) ?_
          refine G_iadd F dX7_sets_46 ?_
          refine G_istore_n F (L2 := [some (.inr a0), some (.inl (s1_6 + (1 : Int32))), some (.inl s2_6)]) dX7_sets_47 (by decide) rfl ?_
          refine G_aload_n F dX7_sets_48 rfl ?_
          refine G_iload_n F dX7_sets_49 rfl ?_
          obtain ⟨⟨v11, m12⟩, e_v11, h⟩ := bnd h
          obtain ⟨hc_v11, e_v11⟩ := hp_on_of e_v11
          refine G_callVv F (As := [.inl s2_6]) (st := []) (metX7_findsNext X e_v11) hc_v11 rfl rfl (lw_V q1736 q1738 qs92 q109 q1739) hdfX7_findsNext ⟨by omega, by decide⟩ rfl (Nat.le_of_ble_eq_true rfl) ⟨by omega, by omega⟩ dX7_sets_50 ?_
          refine G_if_eq F (tgt := 60) dX7_sets_53 (by decide) (fun c13 => ?_) (fun c13 => ?_)
          · have h := itt c13 h
            refine G_iinc F (v := (s2_6 + (1 : Int32))) (L2 := [some (.inr a0), some (.inl (s1_6 + (1 : Int32))), some (.inl (s2_6 + (1 : Int32)))]) dX7_sets_60 (by decide) rfl rfl rfl ?_
            refine G_goto F (tgt := 25) dX7_sets_63 (by decide) ?_
            cases h
            exact G_sub F (L2 := [some (.inr a0), some (.inl (s1_6 + (1 : Int32))), some (.inl (s2_6 + (1 : Int32)))]) ⟨rfl, ⟨rfl, ⟨rfl, trivial⟩⟩⟩ (hP6 _ rfl)
          · have h := itf c13 h
            refine G_iload_n F dX7_sets_56 rfl ?_
            refine G_iconst F (v := (1 : Int32)) dX7_sets_57 (by decide) ?_
            refine G_isub F dX7_sets_58 ?_
            refine G_istore_n F (L2 := [some (.inr a0), some (.inl ((s1_6 + (1 : Int32)) - (1 : Int32))), some (.inl s2_6)]) dX7_sets_59 (by decide) rfl ?_
            refine G_iinc F (v := (s2_6 + (1 : Int32))) (L2 := [some (.inr a0), some (.inl ((s1_6 + (1 : Int32)) - (1 : Int32))), some (.inl (s2_6 + (1 : Int32)))]) dX7_sets_60 (by decide) rfl rfl rfl ?_
            refine G_goto F (tgt := 25) dX7_sets_63 (by decide) ?_
            cases h
            exact G_sub F (L2 := [some (.inr a0), some (.inl ((s1_6 + (1 : Int32)) - (1 : Int32))), some (.inl (s2_6 + (1 : Int32)))]) ⟨rfl, ⟨rfl, ⟨rfl, trivial⟩⟩⟩ (hP6 _ rfl)
        · have h := itt c10 h
          refine G_goto F (tgt := 60) dX7_sets_41 (by decide) ?_
          refine G_iinc F (v := (s2_6 + (1 : Int32))) (L2 := [some (.inr a0), some (.inl s1_6), some (.inl (s2_6 + (1 : Int32)))]) dX7_sets_60 (by decide) rfl rfl rfl ?_
          refine G_goto F (tgt := 25) dX7_sets_63 (by decide) ?_
          cases h
          exact G_sub F (L2 := [some (.inr a0), some (.inl s1_6), some (.inl (s2_6 + (1 : Int32)))]) ⟨rfl, ⟨rfl, ⟨rfl, trivial⟩⟩⟩ (hP6 _ rfl)
    have hI := iter_ok (fun (s : (Int32 × Int32 × Hp)) => match s with | (s1_6, s2_6, m6) => G X cx 3 (Qm X cx (some (.inl rv)) m_ nx 0 0) (0) (0) m6 (nx) [some (.inr a0), some (.inl s1_6), some (.inl s2_6)] [] 25) (fun q => q = r6) KB6 _ _ _ hr6 rfl
    exact G_sub F (L2 := [some (.inr a0), some (.inl (0 : Int32)), some (.inl (0 : Int32))]) ⟨rfl, ⟨rfl, ⟨rfl, trivial⟩⟩⟩ hI
  have KB1 : ∀ s o1, fX7_sets_L4 a0 (0 : Int32) s = some o1 → (∀ s', o1 = Sum.inl s' → (fun (s : (Int32 × Hp)) => match s with | (s2_1, m1) => G X cx 3 (Qm X cx (some (.inl rv)) m_ nx 0 0) (0) (0) m1 (nx) [some (.inr a0), some (.inl (0 : Int32)), some (.inl s2_1)] [] 4) s') → (∀ q, o1 = Sum.inr q → q = r1) → (fun (s : (Int32 × Hp)) => match s with | (s2_1, m1) => G X cx 3 (Qm X cx (some (.inl rv)) m_ nx 0 0) (0) (0) m1 (nx) [some (.inr a0), some (.inl (0 : Int32)), some (.inl s2_1)] [] 4) s := by
    intro s o1 h hP1 hE1
    obtain ⟨s2_1, m1⟩ := s
    try dsimp only at hP1 hE1 ⊢
    refine G_iload_n F dX7_sets_4 rfl ?_
    refine G_bipush F (v := (48 : Int32)) dX7_sets_5 (by decide) ?_
    refine G_icmp_ge F (tgt := 23) dX7_sets_7 (by decide) (fun c2 => ?_) (fun c2 => ?_)
    · have h := itt c2 h
      cases h
      exact G_sub F (L2 := [some (.inr a0), some (.inl (0 : Int32)), none]) ⟨rfl, ⟨rfl, trivial⟩⟩ (KE1 _ (hE1 _ rfl))
    · have h := itf c2 h
      refine G_aload_n F dX7_sets_10 rfl ?_
      obtain ⟨v3, e_v3, h⟩ := bnd h
      refine G_getR F okX7 (f := 60) (by decide) q1284 rfl dX7_sets_11 e_v3 ?_
      refine G_iload_n F dX7_sets_14 rfl ?_
      refine G_iconst F (v := (-1 : Int32)) dX7_sets_15 (by decide) ?_
      obtain ⟨m4, e_m4, h⟩ := bnd h
      refine G_iast F dX7_sets_16 e_m4 ?_
      refine G_iinc F (v := (s2_1 + (1 : Int32))) (L2 := [some (.inr a0), some (.inl (0 : Int32)), some (.inl (s2_1 + (1 : Int32)))]) dX7_sets_17 (by decide) rfl rfl rfl ?_
      refine G_goto F (tgt := 4) dX7_sets_20 (by decide) ?_
      cases h
      exact G_sub F (L2 := [some (.inr a0), some (.inl (0 : Int32)), some (.inl (s2_1 + (1 : Int32)))]) ⟨rfl, ⟨rfl, ⟨rfl, trivial⟩⟩⟩ (hP1 _ rfl)
  have hI := iter_ok (fun (s : (Int32 × Hp)) => match s with | (s2_1, m1) => G X cx 3 (Qm X cx (some (.inl rv)) m_ nx 0 0) (0) (0) m1 (nx) [some (.inr a0), some (.inl (0 : Int32)), some (.inl s2_1)] [] 4) (fun q => q = r1) KB1 _ _ _ hr1 rfl
  exact G_sub F (L2 := [some (.inr a0), some (.inl (0 : Int32)), some (.inl (0 : Int32))]) ⟨rfl, ⟨rfl, ⟨rfl, trivial⟩⟩⟩ hI
