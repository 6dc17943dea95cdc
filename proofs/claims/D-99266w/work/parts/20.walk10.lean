set_option maxRecDepth 100000
set_option linter.unusedVariables false
theorem metX7_areMet (X : Gx) {m : Hp} {nx : Nat} {a0 : Option Nat} {a1 : Int32} {a2 : Int32} {rv : Int32} (h : fX7_areMet m a0 a1 a2 = some rv) : Con X (2) yX7_areMet cX7_areMet 6 ((Option.some FieldType.boolean)) [.inr a0, .inl a1, .inl a2] m nx (some (.inl rv)) m 0 0 := by
  refine Con.of (own := RX7) (nm := "areMet") (L := [some (.inr a0), some (.inl a1), some (.inl a2), none, none, none]) (by decide +kernel) rfl rfl (Nat.le_of_ble_eq_true rfl) (ent_of 3 rfl) ?_
  intro cx F
  refine G_iconst F (v := (0 : Int32)) dX7_areMet_0 (by decide) ?_
  refine G_istore_n F (L2 := [some (.inr a0), some (.inl a1), some (.inl a2), some (.inl (0 : Int32)), none, none]) dX7_areMet_1 (by decide) rfl ?_
  obtain ⟨r1, hr1, h⟩ := bnd h
  have KE1 : ∀ (_ : Unit), Sum.inl () = r1 → G X cx 6 (Qm X cx (some (.inl rv)) m nx 0 0) (0) (0) m (nx) [none, none, none, none, none, none] [] 160 := by
    intro _ hq
    subst hq
    try dsimp only at h
    refine G_iconst F (v := (0 : Int32)) dX7_areMet_160 (by decide) ?_
    cases h
    exact G_zret F rfl (Or.inl rfl) (Nat.le_refl _) (Nat.le_refl _) rfl dX7_areMet_161
  have KR1 : ∀ q, Sum.inr q = r1 → some q = some rv := by
    intro q hq
    subst hq
    exact h
  have KB1 : ∀ s o1, fX7_areMet_L2 m a0 a1 a2 s = some o1 → (∀ s', o1 = Sum.inl s' → (fun (s : Int32) => match s with | s3_1 => G X cx 6 (Qm X cx (some (.inl rv)) m nx 0 0) (0) (0) m (nx) [some (.inr a0), some (.inl a1), some (.inl a2), some (.inl s3_1), none, none] [] 2) s') → (∀ q, o1 = Sum.inr q → q = r1) → (fun (s : Int32) => match s with | s3_1 => G X cx 6 (Qm X cx (some (.inl rv)) m nx 0 0) (0) (0) m (nx) [some (.inr a0), some (.inl a1), some (.inl a2), some (.inl s3_1), none, none] [] 2) s := by
    intro s o1 h hP1 hE1
    obtain ⟨s3_1, hs_⟩ : ∃ x, x = s := ⟨_, rfl⟩
    subst hs_
    try dsimp only at hP1 hE1 ⊢
    refine G_iload_n F dX7_areMet_2 rfl ?_
    refine G_iconst F (v := (1 : Int32)) dX7_areMet_3 (by decide) ?_
    refine G_iadd F dX7_areMet_4 ?_
    refine G_aload_n F dX7_areMet_5 rfl ?_
    obtain ⟨v2, e_v2, h⟩ := bnd h
    refine G_getR F okX7 (f := 6) (by decide) q1230 rfl dX7_areMet_6 e_v2 ?_
    refine G_iload_n F dX7_areMet_9 rfl ?_
    obtain ⟨v3, e_v3, h⟩ := bnd h
    refine G_iald F dX7_areMet_10 e_v3 ?_
    refine G_icmp_ge F (tgt := 160) dX7_areMet_11 (by decide) (fun c4 => ?_) (fun c4 => ?_)
    · have h := itt c4 h
      cases h
      exact G_sub F (L2 := [none, none, none, none, none, none]) trivial (KE1 () (hE1 _ rfl))
    · have h := itf c4 h
      refine G_iconst F (v := (0 : Int32)) dX7_areMet_14 (by decide) ?_
      refine G_istore F (L2 := [some (.inr a0), some (.inl a1), some (.inl a2), some (.inl s3_1), some (.inl (0 : Int32)), none]) dX7_areMet_15 (by decide) rfl ?_
      obtain ⟨r5, hr5, h⟩ := bnd h
      have KE5 : ∀ (_ : Unit), Sum.inl () = r5 → G X cx 6 (Qm X cx (some (.inl rv)) m nx 0 0) (0) (0) m (nx) [some (.inr a0), some (.inl a1), some (.inl a2), some (.inl s3_1), none, none] [] 154 := by
        intro _ hq
        subst hq
        try dsimp only at h
        refine G_iinc F (v := (s3_1 + (1 : Int32))) (L2 := [some (.inr a0), some (.inl a1), some (.inl a2), some (.inl (s3_1 + (1 : Int32))), none, none]) dX7_areMet_154 (by decide) rfl rfl rfl ?_
        refine G_goto F (tgt := 2) dX7_areMet_157 (by decide) ?_
        cases h
        exact G_sub F (L2 := [some (.inr a0), some (.inl a1), some (.inl a2), some (.inl (s3_1 + (1 : Int32))), none, none]) ⟨rfl, ⟨rfl, ⟨rfl, ⟨rfl, trivial⟩⟩⟩⟩ (hP1 _ rfl)
      have KR5 : ∀ q, Sum.inr q = r5 → some q = some o1 := by
        intro q hq
        subst hq
        exact h
      have KB5 : ∀ s o5, fX7_areMet_L17 m a0 a1 a2 s3_1 s = some o5 → (∀ s', o5 = Sum.inl s' → (fun (s : Int32) => match s with | s4_5 => G X cx 6 (Qm X cx (some (.inl rv)) m nx 0 0) (0) (0) m (nx) [some (.inr a0), some (.inl a1), some (.inl a2), some (.inl s3_1), some (.inl s4_5), none] [] 17) s') → (∀ q, o5 = Sum.inr q → q = r5) → (fun (s : Int32) => match s with | s4_5 => G X cx 6 (Qm X cx (some (.inl rv)) m nx 0 0) (0) (0) m (nx) [some (.inr a0), some (.inl a1), some (.inl a2), some (.inl s3_1), some (.inl s4_5), none] [] 17) s := by
        intro s o5 h hP5 hE5
        obtain ⟨s4_5, hs_⟩ : ∃ x, x = s := ⟨_, rfl⟩
        subst hs_
        try dsimp only at hP5 hE5 ⊢
        refine G_iload F dX7_areMet_17 rfl ?_
        refine G_iconst F (v := (1 : Int32)) dX7_areMet_19 (by decide) ?_
        refine G_iadd F dX7_areMet_20 ?_
        refine G_aload_n F dX7_areMet_21 rfl ?_
        obtain ⟨v6, e_v6, h⟩ := bnd h
        refine G_getR F okX7 (f := 6) (by decide) q1230 rfl dX7_areMet_22 e_v6 ?_
        refine G_iload_n F dX7_areMet_25 rfl ?_
        obtain ⟨v7, e_v7, h⟩ := bnd h
        refine G_iald F dX7_areMet_26 e_v7 ?_
        refine G_icmp_ge F (tgt := 154) dX7_areMet_27 (by decide) (fun c8 => ?_) (fun c8 => ?_)
        · have h := itt c8 h
          cases h
          exact G_sub F (L2 := [some (.inr a0), some (.inl a1), some (.inl a2), some (.inl s3_1), none, none]) ⟨rfl, ⟨rfl, ⟨rfl, ⟨rfl, trivial⟩⟩⟩⟩ (KE5 () (hE5 _ rfl))
        · have h := itf c8 h
          refine G_aload_n F dX7_areMet_30 rfl ?_
          obtain ⟨v9, e_v9, h⟩ := bnd h
          refine G_getR F okX7 (f := 7) (by decide) q1231 rfl dX7_areMet_31 e_v9 ?_
          refine G_iload_n F dX7_areMet_34 rfl ?_
          refine G_iload_n F dX7_areMet_35 rfl ?_
          obtain ⟨v10, e_v10, h⟩ := bnd h
          refine G_callSv F (As := [.inl a1, .inl s3_1]) (st := [.inr v9]) (metX7_at X e_v10) (lw_S q1555 q1556 q109 q1557) hdfX7_at ⟨by omega, by decide⟩ rfl (Nat.le_of_ble_eq_true rfl) ⟨by omega, by omega⟩ dX7_areMet_36 ?_
          obtain ⟨v11, e_v11, h⟩ := bnd h
          refine G_iald F dX7_areMet_39 e_v11 ?_
          refine G_aload_n F dX7_areMet_40 rfl ?_
          obtain ⟨v12, e_v12, h⟩ := bnd h
          refine G_getR F okX7 (f := 7) (by decide) q1231 rfl dX7_areMet_41 e_v12 ?_
          refine G_iload_n F dX7_areMet_44 rfl ?_
          refine G_iload F dX7_areMet_45 rfl ?_
          refine G_iconst F (v := (1 : Int32)) dX7_areMet_47 (by decide) ?_
          refine G_iadd F dX7_areMet_48 ?_
          obtain ⟨v13, e_v13, h⟩ := bnd h
          refine G_callSv F (As := [.inl a2, .inl (s4_5 + (1 : Int32))]) (st := [.inr v12, .inl v11]) (metX7_at X e_v13) (lw_S q1555 q1556 q109 q1557) hdfX7_at ⟨by omega, by decide⟩ rfl (Nat.le_of_ble_eq_true rfl) ⟨by omega, by omega⟩ dX7_areMet_49 ?_
          obtain ⟨v14, e_v14, h⟩ := bnd h
          refine G_iald F dX7_areMet_52 e_v14 ?_
          obtain ⟨p16, hp16, h⟩ := bnd h
          have K16 : ∀ (v15 : Int32), v15 = p16 → G X cx 6 (Qm X cx (some (.inl rv)) m nx 0 0) (0) (0) m (nx) [some (.inr a0), some (.inl a1), some (.inl a2), some (.inl s3_1), some (.inl s4_5), none] [.inl v15] 87 := by
            intro v15 hq
            subst hq
            try dsimp only at h
            refine G_istore F (L2 := [some (.inr a0), some (.inl a1), some (.inl a2), some (.inl s3_1), some (.inl s4_5), some (.inl v15)]) dX7_areMet_87 (by decide) rfl ?_
            refine G_iload F dX7_areMet_89 rfl ?_
            refine G_if_eq F (tgt := 148) dX7_areMet_91 (by decide) (fun c17 => ?_) (fun c17 => ?_)
            · have h := itt c17 h
              refine G_iinc F (v := (s4_5 + (1 : Int32))) (L2 := [some (.inr a0), some (.inl a1), some (.inl a2), some (.inl s3_1), some (.inl (s4_5 + (1 : Int32))), some (.inl v15)]) dX7_areMet_148 (by decide) rfl rfl rfl ?_
              refine G_goto F (tgt := 17) dX7_areMet_151 (by decide) ?_
              cases h
              exact G_sub F (L2 := [some (.inr a0), some (.inl a1), some (.inl a2), some (.inl s3_1), some (.inl (s4_5 + (1 : Int32))), none]) ⟨rfl, ⟨rfl, ⟨rfl, ⟨rfl, ⟨rfl, trivial⟩⟩⟩⟩⟩ (hP5 _ rfl)
            · have h := itf c17 h
              refine G_aload_n F dX7_areMet_94 rfl ?_
              obtain ⟨v18, e_v18, h⟩ := bnd h
              refine G_getR F okX7 (f := 8) (by decide) q1232 rfl dX7_areMet_95 e_v18 ?_
              refine G_iload_n F dX7_areMet_98 rfl ?_
              refine G_iload_n F dX7_areMet_99 rfl ?_
              obtain ⟨v19, e_v19, h⟩ := bnd h
              refine G_callSv F (As := [.inl a1, .inl s3_1]) (st := [.inr v18]) (metX7_at X e_v19) (lw_S q1555 q1556 q109 q1557) hdfX7_at ⟨by omega, by decide⟩ rfl (Nat.le_of_ble_eq_true rfl) ⟨by omega, by omega⟩ dX7_areMet_100 ?_
              obtain ⟨v20, e_v20, h⟩ := bnd h
              refine G_iald F dX7_areMet_103 e_v20 ?_
              refine G_aload_n F dX7_areMet_104 rfl ?_
              obtain ⟨v21, e_v21, h⟩ := bnd h
              refine G_getR F okX7 (f := 8) (by decide) q1232 rfl dX7_areMet_105 e_v21 ?_
              refine G_iload_n F dX7_areMet_108 rfl ?_
              refine G_iload F dX7_areMet_109 rfl ?_
              refine G_iconst F (v := (1 : Int32)) dX7_areMet_111 (by decide) ?_
              refine G_iadd F dX7_areMet_112 ?_
              obtain ⟨v22, e_v22, h⟩ := bnd h
              refine G_callSv F (As := [.inl a2, .inl (s4_5 + (1 : Int32))]) (st := [.inr v21, .inl v20]) (metX7_at X e_v22) (lw_S q1555 q1556 q109 q1557) hdfX7_at ⟨by omega, by decide⟩ rfl (Nat.le_of_ble_eq_true rfl) ⟨by omega, by omega⟩ dX7_areMet_113 ?_
              obtain ⟨v23, e_v23, h⟩ := bnd h
              refine G_iald F dX7_areMet_116 e_v23 ?_
              refine G_icmp_ge F (tgt := 148) dX7_areMet_117 (by decide) (fun c24 => ?_) (fun c24 => ?_)
              · have h := itt c24 h
                refine G_iinc F (v := (s4_5 + (1 : Int32))) (L2 := [some (.inr a0), some (.inl a1), some (.inl a2), some (.inl s3_1), some (.inl (s4_5 + (1 : Int32))), some (.inl v15)]) dX7_areMet_148 (by decide) rfl rfl rfl ?_
                refine G_goto F (tgt := 17) dX7_areMet_151 (by decide) ?_
                cases h
                exact G_sub F (L2 := [some (.inr a0), some (.inl a1), some (.inl a2), some (.inl s3_1), some (.inl (s4_5 + (1 : Int32))), none]) ⟨rfl, ⟨rfl, ⟨rfl, ⟨rfl, ⟨rfl, trivial⟩⟩⟩⟩⟩ (hP5 _ rfl)
              · have h := itf c24 h
                refine G_aload_n F dX7_areMet_120 rfl ?_
                obtain ⟨v25, e_v25, h⟩ := bnd h
                refine G_getR F okX7 (f := 8) (by decide) q1232 rfl dX7_areMet_121 e_v25 ?_
                refine G_iload_n F dX7_areMet_124 rfl ?_
                refine G_iload F dX7_areMet_125 rfl ?_
                obtain ⟨v26, e_v26, h⟩ := bnd h
                refine G_callSv F (As := [.inl a2, .inl s4_5]) (st := [.inr v25]) (metX7_at X e_v26) (lw_S q1555 q1556 q109 q1557) hdfX7_at ⟨by omega, by decide⟩ rfl (Nat.le_of_ble_eq_true rfl) ⟨by omega, by omega⟩ dX7_areMet_127 ?_
                obtain ⟨v27, e_v27, h⟩ := bnd h
                refine G_iald F dX7_areMet_130 e_v27 ?_
                refine G_aload_n F dX7_areMet_131 rfl ?_
                obtain ⟨v28, e_v28, h⟩ := bnd h
                refine G_getR F okX7 (f := 8) (by decide) q1232 rfl dX7_areMet_132 e_v28 ?_
                refine G_iload_n F dX7_areMet_135 rfl ?_
                refine G_iload_n F dX7_areMet_136 rfl ?_
                refine G_iconst F (v := (1 : Int32)) dX7_areMet_137 (by decide) ?_
                refine G_iadd F dX7_areMet_138 ?_
                obtain ⟨v29, e_v29, h⟩ := bnd h
                refine G_callSv F (As := [.inl a1, .inl (s3_1 + (1 : Int32))]) (st := [.inr v28, .inl v27]) (metX7_at X e_v29) (lw_S q1555 q1556 q109 q1557) hdfX7_at ⟨by omega, by decide⟩ rfl (Nat.le_of_ble_eq_true rfl) ⟨by omega, by omega⟩ dX7_areMet_139 ?_
                obtain ⟨v30, e_v30, h⟩ := bnd h
                refine G_iald F dX7_areMet_142 e_v30 ?_
                refine G_icmp_ge F (tgt := 148) dX7_areMet_143 (by decide) (fun c31 => ?_) (fun c31 => ?_)
                · have h := itt c31 h
                  refine G_iinc F (v := (s4_5 + (1 : Int32))) (L2 := [some (.inr a0), some (.inl a1), some (.inl a2), some (.inl s3_1), some (.inl (s4_5 + (1 : Int32))), some (.inl v15)]) dX7_areMet_148 (by decide) rfl rfl rfl ?_
                  refine G_goto F (tgt := 17) dX7_areMet_151 (by decide) ?_
                  cases h
                  exact G_sub F (L2 := [some (.inr a0), some (.inl a1), some (.inl a2), some (.inl s3_1), some (.inl (s4_5 + (1 : Int32))), none]) ⟨rfl, ⟨rfl, ⟨rfl, ⟨rfl, ⟨rfl, trivial⟩⟩⟩⟩⟩ (hP5 _ rfl)
                · have h := itf c31 h
                  refine G_iconst F (v := (1 : Int32)) dX7_areMet_146 (by decide) ?_
                  cases h
                  have h := KR5 _ (hE5 _ rfl)
                  cases h
                  have h := KR1 _ (hE1 _ rfl)
                  cases h
                  exact G_zret F rfl (Or.inr rfl) (Nat.le_refl _) (Nat.le_refl _) rfl dX7_areMet_147
          have h := hp16
          clear hp16
          refine G_icmp_ne F (tgt := 86) dX7_areMet_53 (by decide) (fun c32 => ?_) (fun c32 => ?_)
          · have h := itf c32 h
            refine G_iconst F (v := (0 : Int32)) dX7_areMet_86 (by decide) ?_
            have hq_ := Option.some.inj h
            exact G_sub F (L2 := [some (.inr a0), some (.inl a1), some (.inl a2), some (.inl s3_1), some (.inl s4_5), none]) ⟨rfl, ⟨rfl, ⟨rfl, ⟨rfl, ⟨rfl, trivial⟩⟩⟩⟩⟩ (K16 _ hq_)
          · have h := itt c32 h
            refine G_aload_n F dX7_areMet_56 rfl ?_
            obtain ⟨v33, e_v33, h⟩ := bnd h
            refine G_getR F okX7 (f := 7) (by decide) q1231 rfl dX7_areMet_57 e_v33 ?_
            refine G_iload_n F dX7_areMet_60 rfl ?_
            refine G_iload_n F dX7_areMet_61 rfl ?_
            refine G_iconst F (v := (1 : Int32)) dX7_areMet_62 (by decide) ?_
            refine G_iadd F dX7_areMet_63 ?_
            obtain ⟨v34, e_v34, h⟩ := bnd h
            refine G_callSv F (As := [.inl a1, .inl (s3_1 + (1 : Int32))]) (st := [.inr v33]) (metX7_at X e_v34) (lw_S q1555 q1556 q109 q1557) hdfX7_at ⟨by omega, by decide⟩ rfl (Nat.le_of_ble_eq_true rfl) ⟨by omega, by omega⟩ dX7_areMet_64 ?_
            obtain ⟨v35, e_v35, h⟩ := bnd h
            refine G_iald F dX7_areMet_67 e_v35 ?_
            refine G_aload_n F dX7_areMet_68 rfl ?_
            obtain ⟨v36, e_v36, h⟩ := bnd h
            refine G_getR F okX7 (f := 7) (by decide) q1231 rfl dX7_areMet_69 e_v36 ?_
            refine G_iload_n F dX7_areMet_72 rfl ?_
            refine G_iload F dX7_areMet_73 rfl ?_
            obtain ⟨v37, e_v37, h⟩ := bnd h
            refine G_callSv F (As := [.inl a2, .inl s4_5]) (st := [.inr v36, .inl v35]) (metX7_at X e_v37) (lw_S q1555 q1556 q109 q1557) hdfX7_at ⟨by omega, by decide⟩ rfl (Nat.le_of_ble_eq_true rfl) ⟨by omega, by omega⟩ dX7_areMet_75 ?_
            obtain ⟨v38, e_v38, h⟩ := bnd h
            refine G_iald F dX7_areMet_78 e_v38 ?_
            refine G_icmp_ne F (tgt := 86) dX7_areMet_79 (by decide) (fun c39 => ?_) (fun c39 => ?_)
            · have h := itf c39 h
              refine G_iconst F (v := (0 : Int32)) dX7_areMet_86 (by decide) ?_
              have hq_ := Option.some.inj h
              exact G_sub F (L2 := [some (.inr a0), some (.inl a1), some (.inl a2), some (.inl s3_1), some (.inl s4_5), none]) ⟨rfl, ⟨rfl, ⟨rfl, ⟨rfl, ⟨rfl, trivial⟩⟩⟩⟩⟩ (K16 _ hq_)
            · have h := itt c39 h
              refine G_iconst F (v := (1 : Int32)) dX7_areMet_82 (by decide) ?_
              refine G_goto F (tgt := 87) dX7_areMet_83 (by decide) ?_
              have hq_ := Option.some.inj h
              exact G_sub F (L2 := [some (.inr a0), some (.inl a1), some (.inl a2), some (.inl s3_1), some (.inl s4_5), none]) ⟨rfl, ⟨rfl, ⟨rfl, ⟨rfl, ⟨rfl, trivial⟩⟩⟩⟩⟩ (K16 _ hq_)
      have hI := iter_ok (fun (s : Int32) => match s with | s4_5 => G X cx 6 (Qm X cx (some (.inl rv)) m nx 0 0) (0) (0) m (nx) [some (.inr a0), some (.inl a1), some (.inl a2), some (.inl s3_1), some (.inl s4_5), none] [] 17) (fun q => q = r5) KB5 _ _ _ hr5 rfl
      exact G_sub F (L2 := [some (.inr a0), some (.inl a1), some (.inl a2), some (.inl s3_1), some (.inl (0 : Int32)), none]) ⟨rfl, ⟨rfl, ⟨rfl, ⟨rfl, ⟨rfl, trivial⟩⟩⟩⟩⟩ hI
  have hI := iter_ok (fun (s : Int32) => match s with | s3_1 => G X cx 6 (Qm X cx (some (.inl rv)) m nx 0 0) (0) (0) m (nx) [some (.inr a0), some (.inl a1), some (.inl a2), some (.inl s3_1), none, none] [] 2) (fun q => q = r1) KB1 _ _ _ hr1 rfl
  exact G_sub F (L2 := [some (.inr a0), some (.inl a1), some (.inl a2), some (.inl (0 : Int32)), none, none]) ⟨rfl, ⟨rfl, ⟨rfl, ⟨rfl, trivial⟩⟩⟩⟩ hI

theorem metX7_meets (X : Gx) {m : Hp} {nx : Nat} {a0 : Option Nat} {rv : Int32} (h : fX7_meets m a0 = some rv) : Con X (3) yX7_meets cX7_meets 4 ((Option.some FieldType.int)) [.inr a0] m nx (some (.inl rv)) m 0 0 := by
  refine Con.of (own := RX7) (nm := "meets") (L := [some (.inr a0), none, none, none]) (by decide +kernel) rfl rfl (Nat.le_of_ble_eq_true rfl) (ent_of 3 rfl) ?_
  intro cx F
  refine G_iconst F (v := (0 : Int32)) dX7_meets_0 (by decide) ?_
  refine G_istore_n F (L2 := [some (.inr a0), some (.inl (0 : Int32)), none, none]) dX7_meets_1 (by decide) rfl ?_
  refine G_iconst F (v := (0 : Int32)) dX7_meets_2 (by decide) ?_
  refine G_istore_n F (L2 := [some (.inr a0), some (.inl (0 : Int32)), some (.inl (0 : Int32)), none]) dX7_meets_3 (by decide) rfl ?_
  obtain ⟨r1, hr1, h⟩ := bnd h
  have KE1 : ∀ (v13 : Int32), v13 = r1 → G X cx 4 (Qm X cx (some (.inl rv)) m nx 0 0) (0) (0) m (nx) [none, some (.inl v13), none, none] [] 60 := by
    intro v13 hq
    subst hq
    try dsimp only at h
    refine G_iload_n F dX7_meets_60 rfl ?_
    cases h
    exact G_iret F rfl (Nat.le_refl _) (Nat.le_refl _) rfl dX7_meets_61
  have KB1 : ∀ s o1, fX7_meets_L4 m a0 s = some o1 → (∀ s', o1 = Sum.inl s' → (fun (s : (Int32 × Int32)) => match s with | (s1_1, s2_1) => G X cx 4 (Qm X cx (some (.inl rv)) m nx 0 0) (0) (0) m (nx) [some (.inr a0), some (.inl s1_1), some (.inl s2_1), none] [] 4) s') → (∀ q, o1 = Sum.inr q → q = r1) → (fun (s : (Int32 × Int32)) => match s with | (s1_1, s2_1) => G X cx 4 (Qm X cx (some (.inl rv)) m nx 0 0) (0) (0) m (nx) [some (.inr a0), some (.inl s1_1), some (.inl s2_1), none] [] 4) s := by
    intro s o1 h hP1 hE1
    obtain ⟨s1_1, s2_1⟩ := s
    try dsimp only at hP1 hE1 ⊢
    refine G_iload_n F dX7_meets_4 rfl ?_
    refine G_aload_n F dX7_meets_5 rfl ?_
    obtain ⟨v2, e_v2, h⟩ := bnd h
    refine G_getI F okX7 (f := 14) (by decide) q1238 rfl dX7_meets_6 e_v2 ?_
    refine G_icmp_ge F (tgt := 60) dX7_meets_9 (by decide) (fun c3 => ?_) (fun c3 => ?_)
    · have h := itt c3 h
      cases h
      exact G_sub F (L2 := [none, some (.inl s1_1), none, none]) ⟨rfl, trivial⟩ (KE1 _ (hE1 _ rfl))
    · have h := itf c3 h
      refine G_iconst F (v := (0 : Int32)) dX7_meets_12 (by decide) ?_
      refine G_istore_n F (L2 := [some (.inr a0), some (.inl s1_1), some (.inl s2_1), some (.inl (0 : Int32))]) dX7_meets_13 (by decide) rfl ?_
      obtain ⟨r4, hr4, h⟩ := bnd h
      have KE4 : ∀ (v12 : Int32), v12 = r4 → G X cx 4 (Qm X cx (some (.inl rv)) m nx 0 0) (0) (0) m (nx) [some (.inr a0), some (.inl v12), some (.inl s2_1), none] [] 54 := by
        intro v12 hq
        subst hq
        try dsimp only at h
        refine G_iinc F (v := (s2_1 + (1 : Int32))) (L2 := [some (.inr a0), some (.inl v12), some (.inl (s2_1 + (1 : Int32))), none]) dX7_meets_54 (by decide) rfl rfl rfl ?_
        refine G_goto F (tgt := 4) dX7_meets_57 (by decide) ?_
        cases h
        exact G_sub F (L2 := [some (.inr a0), some (.inl v12), some (.inl (s2_1 + (1 : Int32))), none]) ⟨rfl, ⟨rfl, ⟨rfl, trivial⟩⟩⟩ (hP1 _ rfl)
      have KB4 : ∀ s o4, fX7_meets_L14 m a0 s2_1 s = some o4 → (∀ s', o4 = Sum.inl s' → (fun (s : (Int32 × Int32)) => match s with | (s1_4, s3_4) => G X cx 4 (Qm X cx (some (.inl rv)) m nx 0 0) (0) (0) m (nx) [some (.inr a0), some (.inl s1_4), some (.inl s2_1), some (.inl s3_4)] [] 14) s') → (∀ q, o4 = Sum.inr q → q = r4) → (fun (s : (Int32 × Int32)) => match s with | (s1_4, s3_4) => G X cx 4 (Qm X cx (some (.inl rv)) m nx 0 0) (0) (0) m (nx) [some (.inr a0), some (.inl s1_4), some (.inl s2_1), some (.inl s3_4)] [] 14) s := by
        intro s o4 h hP4 hE4
        obtain ⟨s1_4, s3_4⟩ := s
        try dsimp only at hP4 hE4 ⊢
        refine G_iload_n F dX7_meets_14 rfl ?_
        refine G_iload_n F dX7_meets_15 rfl ?_
        refine G_icmp_ge F (tgt := 54) dX7_meets_16 (by decide) (fun c5 => ?_) (fun c5 => ?_)
        · have h := itt c5 h
          cases h
          exact G_sub F (L2 := [some (.inr a0), some (.inl s1_4), some (.inl s2_1), none]) ⟨rfl, ⟨rfl, ⟨rfl, trivial⟩⟩⟩ (KE4 _ (hE4 _ rfl))
        · have h := itf c5 h
          refine G_aload_n F dX7_meets_19 rfl ?_
          refine G_iload_n F dX7_meets_20 rfl ?_
          obtain ⟨v6, e_v6, h⟩ := bnd h
          obtain ⟨hc_v6, e_v6⟩ := hp_on_of e_v6
          refine G_callVv F (As := [.inl s2_1]) (st := []) (metX7_runs X e_v6) hc_v6 rfl rfl (lw_V q1582 q1584 qs71 q109 q1585) hdfX7_runs ⟨by omega, by decide⟩ rfl (Nat.le_of_ble_eq_true rfl) ⟨by omega, by omega⟩ dX7_meets_21 ?_
          refine G_if_eq F (tgt := 48) dX7_meets_24 (by decide) (fun c7 => ?_) (fun c7 => ?_)
          · have h := itt c7 h
            refine G_iinc F (v := (s3_4 + (1 : Int32))) (L2 := [some (.inr a0), some (.inl s1_4), some (.inl s2_1), some (.inl (s3_4 + (1 : Int32)))]) dX7_meets_48 (by decide) rfl rfl rfl ?_
            refine G_goto F (tgt := 14) dX7_meets_51 (by decide) ?_
            cases h
            exact G_sub F (L2 := [some (.inr a0), some (.inl s1_4), some (.inl s2_1), some (.inl (s3_4 + (1 : Int32)))]) ⟨rfl, ⟨rfl, ⟨rfl, ⟨rfl, trivial⟩⟩⟩⟩ (hP4 _ rfl)
          · have h := itf c7 h
            refine G_aload_n F dX7_meets_27 rfl ?_
            refine G_iload_n F dX7_meets_28 rfl ?_
            obtain ⟨v8, e_v8, h⟩ := bnd h
            obtain ⟨hc_v8, e_v8⟩ := hp_on_of e_v8
            refine G_callVv F (As := [.inl s3_4]) (st := []) (metX7_runs X e_v8) hc_v8 rfl rfl (lw_V q1582 q1584 qs71 q109 q1585) hdfX7_runs ⟨by omega, by decide⟩ rfl (Nat.le_of_ble_eq_true rfl) ⟨by omega, by omega⟩ dX7_meets_29 ?_
            refine G_if_eq F (tgt := 48) dX7_meets_32 (by decide) (fun c9 => ?_) (fun c9 => ?_)
            · have h := itt c9 h
              refine G_iinc F (v := (s3_4 + (1 : Int32))) (L2 := [some (.inr a0), some (.inl s1_4), some (.inl s2_1), some (.inl (s3_4 + (1 : Int32)))]) dX7_meets_48 (by decide) rfl rfl rfl ?_
              refine G_goto F (tgt := 14) dX7_meets_51 (by decide) ?_
              cases h
              exact G_sub F (L2 := [some (.inr a0), some (.inl s1_4), some (.inl s2_1), some (.inl (s3_4 + (1 : Int32)))]) ⟨rfl, ⟨rfl, ⟨rfl, ⟨rfl, trivial⟩⟩⟩⟩ (hP4 _ rfl)
            · have h := itf c9 h
              refine G_aload_n F dX7_meets_35 rfl ?_
              refine G_iload_n F dX7_meets_36 rfl ?_
              refine G_iload_n F dX7_meets_37 rfl ?_
              obtain ⟨v10, e_v10, h⟩ := bnd h
              obtain ⟨hc_v10, e_v10⟩ := hp_on_of e_v10
              refine G_callVv F (As := [.inl s2_1, .inl s3_4]) (st := []) (metX7_areMet X e_v10) hc_v10 rfl rfl (lw_V q1753 q1755 qs95 q109 q1756) hdfX7_areMet ⟨by omega, by decide⟩ rfl (Nat.le_of_ble_eq_true rfl) ⟨by omega, by omega⟩ dX7_meets_38 ?_
              refine G_if_eq F (tgt := 48) dX7_meets_41 (by decide) (fun c11 => ?_) (fun c11 => ?_)
              · have h := itt c11 h
                refine G_iinc F (v := (s3_4 + (1 : Int32))) (L2 := [some (.inr a0), some (.inl s1_4), some (.inl s2_1), some (.inl (s3_4 + (1 : Int32)))]) dX7_meets_48 (by decide) rfl rfl rfl ?_
                refine G_goto F (tgt := 14) dX7_meets_51 (by decide) ?_
                cases h
                exact G_sub F (L2 := [some (.inr a0), some (.inl s1_4), some (.inl s2_1), some (.inl (s3_4 + (1 : Int32)))]) ⟨rfl, ⟨rfl, ⟨rfl, ⟨rfl, trivial⟩⟩⟩⟩ (hP4 _ rfl)
              · have h := itf c11 h
                refine G_iload_n F dX7_meets_44 rfl ?_
                refine G_iconst F (v := (1 : Int32)) dX7_meets_45 (by decide) ?_
                refine G_iadd F dX7_meets_46 ?_
                refine G_istore_n F (L2 := [some (.inr a0), some (.inl (s1_4 + (1 : Int32))), some (.inl s2_1), some (.inl s3_4)]) dX7_meets_47 (by decide) rfl ?_
                refine G_iinc F (v := (s3_4 + (1 : Int32))) (L2 := [some (.inr a0), some (.inl (s1_4 + (1 : Int32))), some (.inl s2_1), some (.inl (s3_4 + (1 : Int32)))]) dX7_meets_48 (by decide) rfl rfl rfl ?_
                refine G_goto F (tgt := 14) dX7_meets_51 (by decide) ?_
                cases h
                exact G_sub F (L2 := [some (.inr a0), some (.inl (s1_4 + (1 : Int32))), some (.inl s2_1), some (.inl (s3_4 + (1 : Int32)))]) ⟨rfl, ⟨rfl, ⟨rfl, ⟨rfl, trivial⟩⟩⟩⟩ (hP4 _ rfl)
      have hI := iter_ok (fun (s : (Int32 × Int32)) => match s with | (s1_4, s3_4) => G X cx 4 (Qm X cx (some (.inl rv)) m nx 0 0) (0) (0) m (nx) [some (.inr a0), some (.inl s1_4), some (.inl s2_1), some (.inl s3_4)] [] 14) (fun q => q = r4) KB4 _ _ _ hr4 rfl
      exact G_sub F (L2 := [some (.inr a0), some (.inl s1_1), some (.inl s2_1), some (.inl (0 : Int32))]) ⟨rfl, ⟨rfl, ⟨rfl, ⟨rfl, trivial⟩⟩⟩⟩ hI
  have hI := iter_ok (fun (s : (Int32 × Int32)) => match s with | (s1_1, s2_1) => G X cx 4 (Qm X cx (some (.inl rv)) m nx 0 0) (0) (0) m (nx) [some (.inr a0), some (.inl s1_1), some (.inl s2_1), none] [] 4) (fun q => q = r1) KB1 _ _ _ hr1 rfl
  exact G_sub F (L2 := [some (.inr a0), some (.inl (0 : Int32)), some (.inl (0 : Int32)), none]) ⟨rfl, ⟨rfl, ⟨rfl, trivial⟩⟩⟩ hI

theorem metX7_mostAt (X : Gx) {m : Hp} {nx : Nat} {a0 : Option Nat} {a1 : Int32} {a2 : Int32} {rv : Int32} (h : fX7_mostAt m a0 a1 a2 = some rv) : Con X (2) yX7_mostAt cX7_mostAt 6 ((Option.some FieldType.int)) [.inr a0, .inl a1, .inl a2] m nx (some (.inl rv)) m 0 0 := by
  refine Con.of (own := RX7) (nm := "mostAt") (L := [some (.inr a0), some (.inl a1), some (.inl a2), none, none, none]) (by decide +kernel) rfl rfl (Nat.le_of_ble_eq_true rfl) (ent_of 3 rfl) ?_
  intro cx F
  refine G_aload_n F dX7_mostAt_0 rfl ?_
  obtain ⟨v1, e_v1, h⟩ := bnd h
  refine G_getR F okX7 (f := 7) (by decide) q1231 rfl dX7_mostAt_1 e_v1 ?_
  refine G_iload_n F dX7_mostAt_4 rfl ?_
  obtain ⟨v2, e_v2, h⟩ := bnd h
  refine G_iald F dX7_mostAt_5 e_v2 ?_
  refine G_iload_n F dX7_mostAt_6 rfl ?_
  obtain ⟨p4, hp4, h⟩ := bnd h
  have K4 : ∀ (v3 : Int32), v3 = p4 → G X cx 6 (Qm X cx (some (.inl rv)) m nx 0 0) (0) (0) m (nx) [some (.inr a0), some (.inl a1), none, none, none, none] [.inl v3] 15 := by
    intro v3 hq
    subst hq
    try dsimp only at h
    refine G_istore_n F (L2 := [some (.inr a0), some (.inl a1), none, some (.inl v3), none, none]) dX7_mostAt_15 (by decide) rfl ?_
    refine G_iconst F (v := (0 : Int32)) dX7_mostAt_16 (by decide) ?_
    refine G_istore F (L2 := [some (.inr a0), some (.inl a1), none, some (.inl v3), some (.inl (0 : Int32)), none]) dX7_mostAt_17 (by decide) rfl ?_
    obtain ⟨r5, hr5, h⟩ := bnd h
    have KE5 : ∀ (v29 : Int32), v29 = r5 → G X cx 6 (Qm X cx (some (.inl rv)) m nx 0 0) (0) (0) m (nx) [none, none, none, some (.inl v29), none, none] [] 121 := by
      intro v29 hq
      subst hq
      try dsimp only at h
      refine G_iload_n F dX7_mostAt_121 rfl ?_
      cases h
      exact G_iret F rfl (Nat.le_refl _) (Nat.le_refl _) rfl dX7_mostAt_122
    have KB5 : ∀ s o5, fX7_mostAt_L19 m a0 a1 s = some o5 → (∀ s', o5 = Sum.inl s' → (fun (s : (Int32 × Int32)) => match s with | (s3_5, s4_5) => G X cx 6 (Qm X cx (some (.inl rv)) m nx 0 0) (0) (0) m (nx) [some (.inr a0), some (.inl a1), none, some (.inl s3_5), some (.inl s4_5), none] [] 19) s') → (∀ q, o5 = Sum.inr q → q = r5) → (fun (s : (Int32 × Int32)) => match s with | (s3_5, s4_5) => G X cx 6 (Qm X cx (some (.inl rv)) m nx 0 0) (0) (0) m (nx) [some (.inr a0), some (.inl a1), none, some (.inl s3_5), some (.inl s4_5), none] [] 19) s := by
      intro s o5 h hP5 hE5
      obtain ⟨s3_5, s4_5⟩ := s
      try dsimp only at hP5 hE5 ⊢
      refine G_iload F dX7_mostAt_19 rfl ?_
      refine G_aload_n F dX7_mostAt_21 rfl ?_
      obtain ⟨v6, e_v6, h⟩ := bnd h
      refine G_getI F okX7 (f := 15) (by decide) q1239 rfl dX7_mostAt_22 e_v6 ?_
      refine G_icmp_ge F (tgt := 121) dX7_mostAt_25 (by decide) (fun c7 => ?_) (fun c7 => ?_)
      · have h := itt c7 h
        cases h
        exact G_sub F (L2 := [none, none, none, some (.inl s3_5), none, none]) ⟨rfl, trivial⟩ (KE5 _ (hE5 _ rfl))
      · have h := itf c7 h
        refine G_aload_n F dX7_mostAt_28 rfl ?_
        obtain ⟨v8, e_v8, h⟩ := bnd h
        refine G_getR F okX7 (f := 10) (by decide) q1234 rfl dX7_mostAt_29 e_v8 ?_
        refine G_iload F dX7_mostAt_32 rfl ?_
        obtain ⟨v9, e_v9, h⟩ := bnd h
        refine G_iald F dX7_mostAt_34 e_v9 ?_
        refine G_istore F (L2 := [some (.inr a0), some (.inl a1), none, some (.inl s3_5), some (.inl s4_5), some (.inl v9)]) dX7_mostAt_35 (by decide) rfl ?_
        refine G_iload F dX7_mostAt_37 rfl ?_
        refine G_bipush F (v := (8 : Int32)) dX7_mostAt_39 (by decide) ?_
        refine G_idiv F (by decide) dX7_mostAt_41 ?_
        refine G_iload_n F dX7_mostAt_42 rfl ?_
        refine G_bipush F (v := (8 : Int32)) dX7_mostAt_43 (by decide) ?_
        refine G_idiv F (by decide) dX7_mostAt_45 ?_
        refine G_icmp_eq F (tgt := 115) dX7_mostAt_46 (by decide) (fun c10 => ?_) (fun c10 => ?_)
        · have h := itt c10 h
          refine G_iinc F (v := (s4_5 + (1 : Int32))) (L2 := [some (.inr a0), some (.inl a1), none, some (.inl s3_5), some (.inl (s4_5 + (1 : Int32))), some (.inl v9)]) dX7_mostAt_115 (by decide) rfl rfl rfl ?_
          refine G_goto F (tgt := 19) dX7_mostAt_118 (by decide) ?_
          cases h
          exact G_sub F (L2 := [some (.inr a0), some (.inl a1), none, some (.inl s3_5), some (.inl (s4_5 + (1 : Int32))), none]) ⟨rfl, ⟨rfl, ⟨rfl, ⟨rfl, trivial⟩⟩⟩⟩ (hP5 _ rfl)
        · have h := itf c10 h
          refine G_aload_n F dX7_mostAt_49 rfl ?_
          obtain ⟨v11, e_v11, h⟩ := bnd h
          refine G_getR F okX7 (f := 7) (by decide) q1231 rfl dX7_mostAt_50 e_v11 ?_
          refine G_iload F dX7_mostAt_53 rfl ?_
          obtain ⟨v12, e_v12, h⟩ := bnd h
          refine G_iald F dX7_mostAt_55 e_v12 ?_
          refine G_aload_n F dX7_mostAt_56 rfl ?_
          obtain ⟨v13, e_v13, h⟩ := bnd h
          refine G_getR F okX7 (f := 7) (by decide) q1231 rfl dX7_mostAt_57 e_v13 ?_
          refine G_iload_n F dX7_mostAt_60 rfl ?_
          obtain ⟨v14, e_v14, h⟩ := bnd h
          refine G_iald F dX7_mostAt_61 e_v14 ?_
          refine G_icmp_ne F (tgt := 115) dX7_mostAt_62 (by decide) (fun c15 => ?_) (fun c15 => ?_)
          · have h := itf c15 h
            refine G_iinc F (v := (s4_5 + (1 : Int32))) (L2 := [some (.inr a0), some (.inl a1), none, some (.inl s3_5), some (.inl (s4_5 + (1 : Int32))), some (.inl v9)]) dX7_mostAt_115 (by decide) rfl rfl rfl ?_
            refine G_goto F (tgt := 19) dX7_mostAt_118 (by decide) ?_
            cases h
            exact G_sub F (L2 := [some (.inr a0), some (.inl a1), none, some (.inl s3_5), some (.inl (s4_5 + (1 : Int32))), none]) ⟨rfl, ⟨rfl, ⟨rfl, ⟨rfl, trivial⟩⟩⟩⟩ (hP5 _ rfl)
          · have h := itt c15 h
            refine G_aload_n F dX7_mostAt_65 rfl ?_
            obtain ⟨v16, e_v16, h⟩ := bnd h
            refine G_getR F okX7 (f := 8) (by decide) q1232 rfl dX7_mostAt_66 e_v16 ?_
            refine G_iload F dX7_mostAt_69 rfl ?_
            obtain ⟨v17, e_v17, h⟩ := bnd h
            refine G_iald F dX7_mostAt_71 e_v17 ?_
            refine G_aload_n F dX7_mostAt_72 rfl ?_
            obtain ⟨v18, e_v18, h⟩ := bnd h
            refine G_getI F okX7 (f := 13) (by decide) q1237 rfl dX7_mostAt_73 e_v18 ?_
            refine G_iadd F dX7_mostAt_76 ?_
            refine G_aload_n F dX7_mostAt_77 rfl ?_
            obtain ⟨v19, e_v19, h⟩ := bnd h
            refine G_getR F okX7 (f := 8) (by decide) q1232 rfl dX7_mostAt_78 e_v19 ?_
            refine G_iload_n F dX7_mostAt_81 rfl ?_
            obtain ⟨v20, e_v20, h⟩ := bnd h
            refine G_iald F dX7_mostAt_82 e_v20 ?_
            refine G_icmp_le F (tgt := 89) dX7_mostAt_83 (by decide) (fun c21 => ?_) (fun c21 => ?_)
            · have h := itt c21 h
              refine G_iload_n F dX7_mostAt_89 rfl ?_
              refine G_aload_n F dX7_mostAt_90 rfl ?_
              obtain ⟨v22, e_v22, h⟩ := bnd h
              refine G_getR F okX7 (f := 63) (by decide) q1287 rfl dX7_mostAt_91 e_v22 ?_
              refine G_iload F dX7_mostAt_94 rfl ?_
              obtain ⟨v23, e_v23, h⟩ := bnd h
              refine G_iald F dX7_mostAt_96 e_v23 ?_
              refine G_if_ne F (tgt := 104) dX7_mostAt_97 (by decide) (fun c24 => ?_) (fun c24 => ?_)
              · have h := itf c24 h
                refine G_aload_n F dX7_mostAt_104 rfl ?_
                obtain ⟨v25, e_v25, h⟩ := bnd h
                refine G_getR F okX7 (f := 63) (by decide) q1287 rfl dX7_mostAt_105 e_v25 ?_
                refine G_iload F dX7_mostAt_108 rfl ?_
                obtain ⟨v26, e_v26, h⟩ := bnd h
                refine G_iald F dX7_mostAt_110 e_v26 ?_
                obtain ⟨v27, e_v27, h⟩ := bnd h
                refine G_callSv F (As := [.inl s3_5, .inl v26]) (st := []) (metX7_max X e_v27) (lw_S q1613 q1614 q109 q1615) hdfX7_max ⟨by omega, by decide⟩ rfl (Nat.le_of_ble_eq_true rfl) ⟨by omega, by omega⟩ dX7_mostAt_111 ?_
                refine G_istore_n F (L2 := [some (.inr a0), some (.inl a1), none, some (.inl v27), some (.inl s4_5), some (.inl v9)]) dX7_mostAt_114 (by decide) rfl ?_
                refine G_iinc F (v := (s4_5 + (1 : Int32))) (L2 := [some (.inr a0), some (.inl a1), none, some (.inl v27), some (.inl (s4_5 + (1 : Int32))), some (.inl v9)]) dX7_mostAt_115 (by decide) rfl rfl rfl ?_
                refine G_goto F (tgt := 19) dX7_mostAt_118 (by decide) ?_
                cases h
                exact G_sub F (L2 := [some (.inr a0), some (.inl a1), none, some (.inl v27), some (.inl (s4_5 + (1 : Int32))), none]) ⟨rfl, ⟨rfl, ⟨rfl, ⟨rfl, trivial⟩⟩⟩⟩ (hP5 _ rfl)
              · have h := itt c24 h
                refine G_iconst F (v := (-1 : Int32)) dX7_mostAt_100 (by decide) ?_
                refine G_goto F (tgt := 111) dX7_mostAt_101 (by decide) ?_
                obtain ⟨v28, e_v28, h⟩ := bnd h
                refine G_callSv F (As := [.inl s3_5, .inl (-1 : Int32)]) (st := []) (metX7_max X e_v28) (lw_S q1613 q1614 q109 q1615) hdfX7_max ⟨by omega, by decide⟩ rfl (Nat.le_of_ble_eq_true rfl) ⟨by omega, by omega⟩ dX7_mostAt_111 ?_
                refine G_istore_n F (L2 := [some (.inr a0), some (.inl a1), none, some (.inl v28), some (.inl s4_5), some (.inl v9)]) dX7_mostAt_114 (by decide) rfl ?_
                refine G_iinc F (v := (s4_5 + (1 : Int32))) (L2 := [some (.inr a0), some (.inl a1), none, some (.inl v28), some (.inl (s4_5 + (1 : Int32))), some (.inl v9)]) dX7_mostAt_115 (by decide) rfl rfl rfl ?_
                refine G_goto F (tgt := 19) dX7_mostAt_118 (by decide) ?_
                cases h
                exact G_sub F (L2 := [some (.inr a0), some (.inl a1), none, some (.inl v28), some (.inl (s4_5 + (1 : Int32))), none]) ⟨rfl, ⟨rfl, ⟨rfl, ⟨rfl, trivial⟩⟩⟩⟩ (hP5 _ rfl)
            · have h := itf c21 h
              refine G_goto F (tgt := 115) dX7_mostAt_86 (by decide) ?_
              refine G_iinc F (v := (s4_5 + (1 : Int32))) (L2 := [some (.inr a0), some (.inl a1), none, some (.inl s3_5), some (.inl (s4_5 + (1 : Int32))), some (.inl v9)]) dX7_mostAt_115 (by decide) rfl rfl rfl ?_
              refine G_goto F (tgt := 19) dX7_mostAt_118 (by decide) ?_
              cases h
              exact G_sub F (L2 := [some (.inr a0), some (.inl a1), none, some (.inl s3_5), some (.inl (s4_5 + (1 : Int32))), none]) ⟨rfl, ⟨rfl, ⟨rfl, ⟨rfl, trivial⟩⟩⟩⟩ (hP5 _ rfl)
    have hI := iter_ok (fun (s : (Int32 × Int32)) => match s with | (s3_5, s4_5) => G X cx 6 (Qm X cx (some (.inl rv)) m nx 0 0) (0) (0) m (nx) [some (.inr a0), some (.inl a1), none, some (.inl s3_5), some (.inl s4_5), none] [] 19) (fun q => q = r5) KB5 _ _ _ hr5 rfl
    exact G_sub F (L2 := [some (.inr a0), some (.inl a1), none, some (.inl v3), some (.inl (0 : Int32)), none]) ⟨rfl, ⟨rfl, ⟨rfl, ⟨rfl, trivial⟩⟩⟩⟩ hI
  have h := hp4
  clear hp4
  refine G_icmp_ne F (tgt := 14) dX7_mostAt_7 (by decide) (fun c30 => ?_) (fun c30 => ?_)
  · have h := itf c30 h
    refine G_iconst F (v := (-1 : Int32)) dX7_mostAt_14 (by decide) ?_
    have hq_ := Option.some.inj h
    exact G_sub F (L2 := [some (.inr a0), some (.inl a1), none, none, none, none]) ⟨rfl, ⟨rfl, trivial⟩⟩ (K4 _ hq_)
  · have h := itt c30 h
    refine G_iconst F (v := (0 : Int32)) dX7_mostAt_10 (by decide) ?_
    refine G_goto F (tgt := 15) dX7_mostAt_11 (by decide) ?_
    have hq_ := Option.some.inj h
    exact G_sub F (L2 := [some (.inr a0), some (.inl a1), none, none, none, none]) ⟨rfl, ⟨rfl, trivial⟩⟩ (K4 _ hq_)

theorem metX7_inspector (X : Gx) {m : Hp} {nx : Nat} {a0 : Option Nat} {a1 : Int32} {rv : Int32} {m_ : Hp} (h : fX7_inspector m a0 a1 = some (rv, m_)) : Con X (3) yX7_inspector cX7_inspector 8 ((Option.some FieldType.int)) [.inr a0, .inl a1] m nx (some (.inl rv)) m_ 0 0 := by
  refine Con.of (own := RX7) (nm := "inspector") (L := [some (.inr a0), some (.inl a1), none, none, none, none, none, none]) (by decide +kernel) rfl rfl (Nat.le_of_ble_eq_true rfl) (ent_of 6 rfl) ?_
  intro cx F
  refine G_iload_n F dX7_inspector_0 rfl ?_
  obtain ⟨v1, e_v1, h⟩ := bnd h
  refine G_callSv F (As := [.inl a1]) (st := []) (metX7_isStation X e_v1) (lw_S q1433 q1434 q109 q1435) hdfX7_isStation ⟨by omega, by decide⟩ rfl (Nat.le_of_ble_eq_true rfl) ⟨by omega, by omega⟩ dX7_inspector_1 ?_
  refine G_if_ne F (tgt := 9) dX7_inspector_4 (by decide) (fun c2 => ?_) (fun c2 => ?_)
  · have h := itf c2 h
    refine G_iconst F (v := (0 : Int32)) dX7_inspector_9 (by decide) ?_
    refine G_istore_n F (L2 := [some (.inr a0), some (.inl a1), some (.inl (0 : Int32)), none, none, none, none, none]) dX7_inspector_10 (by decide) rfl ?_
    obtain ⟨r3, hr3, h⟩ := bnd h
    have KE3 : ∀ (m7 : Hp), m7 = r3 → G X cx 8 (Qm X cx (some (.inl rv)) m_ nx 0 0) (0) (0) m7 (nx) [some (.inr a0), some (.inl a1), none, none, none, none, none, none] [] 31 := by
      intro m7 hq
      subst hq
      try dsimp only at h
      refine G_iconst F (v := (0 : Int32)) dX7_inspector_31 (by decide) ?_
      refine G_istore_n F (L2 := [some (.inr a0), some (.inl a1), some (.inl (0 : Int32)), none, none, none, none, none]) dX7_inspector_32 (by decide) rfl ?_
      refine G_iconst F (v := (0 : Int32)) dX7_inspector_33 (by decide) ?_
      refine G_istore_n F (L2 := [some (.inr a0), some (.inl a1), some (.inl (0 : Int32)), some (.inl (0 : Int32)), none, none, none, none]) dX7_inspector_34 (by decide) rfl ?_
      obtain ⟨r8, hr8, h⟩ := bnd h
      have KE8 : ∀ (v34 : Int32) (m35 : Hp), (v34, m35) = r8 → G X cx 8 (Qm X cx (some (.inl rv)) m_ nx 0 0) (0) (0) m35 (nx) [none, none, some (.inl v34), none, none, none, none, none] [] 175 := by
        intro v34 m35 hq
        subst hq
        try dsimp only at h
        refine G_iload_n F dX7_inspector_175 rfl ?_
        cases h
        exact G_iret F rfl (Nat.le_refl _) (Nat.le_refl _) rfl dX7_inspector_176
      have KB8 : ∀ s o8, fX7_inspector_L35 a0 a1 s = some o8 → (∀ s', o8 = Sum.inl s' → (fun (s : (Int32 × Int32 × Hp)) => match s with | (s2_8, s3_8, m8) => G X cx 8 (Qm X cx (some (.inl rv)) m_ nx 0 0) (0) (0) m8 (nx) [some (.inr a0), some (.inl a1), some (.inl s2_8), some (.inl s3_8), none, none, none, none] [] 35) s') → (∀ q, o8 = Sum.inr q → q = r8) → (fun (s : (Int32 × Int32 × Hp)) => match s with | (s2_8, s3_8, m8) => G X cx 8 (Qm X cx (some (.inl rv)) m_ nx 0 0) (0) (0) m8 (nx) [some (.inr a0), some (.inl a1), some (.inl s2_8), some (.inl s3_8), none, none, none, none] [] 35) s := by
        intro s o8 h hP8 hE8
        obtain ⟨s2_8, s3_8, m8⟩ := s
        try dsimp only at hP8 hE8 ⊢
        refine G_iload_n F dX7_inspector_35 rfl ?_
        refine G_aload_n F dX7_inspector_36 rfl ?_
        obtain ⟨v9, e_v9, h⟩ := bnd h
        refine G_getI F okX7 (f := 15) (by decide) q1239 rfl dX7_inspector_37 e_v9 ?_
        refine G_icmp_ge F (tgt := 175) dX7_inspector_40 (by decide) (fun c10 => ?_) (fun c10 => ?_)
        · have h := itt c10 h
          cases h
          exact G_sub F (L2 := [none, none, some (.inl s2_8), none, none, none, none, none]) ⟨rfl, trivial⟩ (KE8 _ _ (hE8 _ rfl))
        · have h := itf c10 h
          refine G_aload_n F dX7_inspector_43 rfl ?_
          obtain ⟨v11, e_v11, h⟩ := bnd h
          refine G_getR F okX7 (f := 10) (by decide) q1234 rfl dX7_inspector_44 e_v11 ?_
          refine G_iload_n F dX7_inspector_47 rfl ?_
          obtain ⟨v12, e_v12, h⟩ := bnd h
          refine G_iald F dX7_inspector_48 e_v12 ?_
          refine G_istore F (L2 := [some (.inr a0), some (.inl a1), some (.inl s2_8), some (.inl s3_8), some (.inl v12), none, none, none]) dX7_inspector_49 (by decide) rfl ?_
          refine G_iload F dX7_inspector_51 rfl ?_
          refine G_bipush F (v := (8 : Int32)) dX7_inspector_53 (by decide) ?_
          refine G_idiv F (by decide) dX7_inspector_55 ?_
          refine G_istore F (L2 := [some (.inr a0), some (.inl a1), some (.inl s2_8), some (.inl s3_8), some (.inl v12), some (.inl (v12 / (8 : Int32))), none, none]) dX7_inspector_56 (by decide) rfl ?_
          refine G_aload_n F dX7_inspector_58 rfl ?_
          refine G_iload F dX7_inspector_59 rfl ?_
          obtain ⟨v13, e_v13, h⟩ := bnd h
          obtain ⟨hc_v13, e_v13⟩ := hp_on_of e_v13
          refine G_callVv F (As := [.inl (v12 / (8 : Int32))]) (st := []) (metX7_runs X e_v13) hc_v13 rfl rfl (lw_V q1582 q1584 qs71 q109 q1585) hdfX7_runs ⟨by omega, by decide⟩ rfl (Nat.le_of_ble_eq_true rfl) ⟨by omega, by omega⟩ dX7_inspector_61 ?_
          refine G_if_eq F (tgt := 169) dX7_inspector_64 (by decide) (fun c14 => ?_) (fun c14 => ?_)
          · have h := itt c14 h
            refine G_iinc F (v := (s3_8 + (1 : Int32))) (L2 := [some (.inr a0), some (.inl a1), some (.inl s2_8), some (.inl (s3_8 + (1 : Int32))), some (.inl v12), some (.inl (v12 / (8 : Int32))), none, none]) dX7_inspector_169 (by decide) rfl rfl rfl ?_
            refine G_goto F (tgt := 35) dX7_inspector_172 (by decide) ?_
            cases h
            exact G_sub F (L2 := [some (.inr a0), some (.inl a1), some (.inl s2_8), some (.inl (s3_8 + (1 : Int32))), none, none, none, none]) ⟨rfl, ⟨rfl, ⟨rfl, ⟨rfl, trivial⟩⟩⟩⟩ (hP8 _ rfl)
          · have h := itf c14 h
            refine G_iload F dX7_inspector_67 rfl ?_
            refine G_bipush F (v := (8 : Int32)) dX7_inspector_69 (by decide) ?_
            refine G_irem F (by decide) dX7_inspector_71 ?_
            refine G_aload_n F dX7_inspector_72 rfl ?_
            obtain ⟨v15, e_v15, h⟩ := bnd h
            refine G_getR F okX7 (f := 6) (by decide) q1230 rfl dX7_inspector_73 e_v15 ?_
            refine G_iload F dX7_inspector_76 rfl ?_
            obtain ⟨v16, e_v16, h⟩ := bnd h
            refine G_iald F dX7_inspector_78 e_v16 ?_
            refine G_iconst F (v := (1 : Int32)) dX7_inspector_79 (by decide) ?_
            refine G_isub F dX7_inspector_80 ?_
            refine G_icmp_ne F (tgt := 87) dX7_inspector_81 (by decide) (fun c17 => ?_) (fun c17 => ?_)
            · have h := itf c17 h
              refine G_aload_n F dX7_inspector_87 rfl ?_
              refine G_iload F dX7_inspector_88 rfl ?_
              refine G_iload_n F dX7_inspector_90 rfl ?_
              obtain ⟨v18, e_v18, h⟩ := bnd h
              obtain ⟨hc_v18, e_v18⟩ := hp_on_of e_v18
              refine G_callVv F (As := [.inl v12, .inl a1]) (st := []) (metX7_mostAt X e_v18) hc_v18 rfl rfl (lw_V q1761 q1763 qs96 q109 q1764) hdfX7_mostAt ⟨by omega, by decide⟩ rfl (Nat.le_of_ble_eq_true rfl) ⟨by omega, by omega⟩ dX7_inspector_91 ?_
              refine G_istore F (L2 := [some (.inr a0), some (.inl a1), some (.inl s2_8), some (.inl s3_8), some (.inl v12), some (.inl (v12 / (8 : Int32))), some (.inl v18), none]) dX7_inspector_94 (by decide) rfl ?_
              refine G_iload F dX7_inspector_96 rfl ?_
              refine G_bipush F (v := (8 : Int32)) dX7_inspector_98 (by decide) ?_
              refine G_irem F (by decide) dX7_inspector_100 ?_
              refine G_iconst F (v := (1 : Int32)) dX7_inspector_101 (by decide) ?_
              refine G_iadd F dX7_inspector_102 ?_
              refine G_istore F (L2 := [some (.inr a0), some (.inl a1), some (.inl s2_8), some (.inl s3_8), some (.inl v12), some (.inl (v12 / (8 : Int32))), some (.inl v18), some (.inl ((jrem v12 (8 : Int32)) + (1 : Int32)))]) dX7_inspector_103 (by decide) rfl ?_
              obtain ⟨r19, hr19, h⟩ := bnd h
              have KE19 : ∀ (v32 : Int32) (m33 : Hp), (v32, m33) = r19 → G X cx 8 (Qm X cx (some (.inl rv)) m_ nx 0 0) (0) (0) m33 (nx) [some (.inr a0), some (.inl a1), some (.inl v32), some (.inl s3_8), none, none, none, none] [] 169 := by
                intro v32 m33 hq
                subst hq
                try dsimp only at h
                refine G_iinc F (v := (s3_8 + (1 : Int32))) (L2 := [some (.inr a0), some (.inl a1), some (.inl v32), some (.inl (s3_8 + (1 : Int32))), none, none, none, none]) dX7_inspector_169 (by decide) rfl rfl rfl ?_
                refine G_goto F (tgt := 35) dX7_inspector_172 (by decide) ?_
                cases h
                exact G_sub F (L2 := [some (.inr a0), some (.inl a1), some (.inl v32), some (.inl (s3_8 + (1 : Int32))), none, none, none, none]) ⟨rfl, ⟨rfl, ⟨rfl, ⟨rfl, trivial⟩⟩⟩⟩ (hP8 _ rfl)
              have KB19 : ∀ s o19, fX7_inspector_L105 a0 a1 s3_8 (v12 / (8 : Int32)) v18 s = some o19 → (∀ s', o19 = Sum.inl s' → (fun (s : (Int32 × Int32 × Hp)) => match s with | (s2_19, s7_19, m19) => G X cx 8 (Qm X cx (some (.inl rv)) m_ nx 0 0) (0) (0) m19 (nx) [some (.inr a0), some (.inl a1), some (.inl s2_19), some (.inl s3_8), none, some (.inl (v12 / (8 : Int32))), some (.inl v18), some (.inl s7_19)] [] 105) s') → (∀ q, o19 = Sum.inr q → q = r19) → (fun (s : (Int32 × Int32 × Hp)) => match s with | (s2_19, s7_19, m19) => G X cx 8 (Qm X cx (some (.inl rv)) m_ nx 0 0) (0) (0) m19 (nx) [some (.inr a0), some (.inl a1), some (.inl s2_19), some (.inl s3_8), none, some (.inl (v12 / (8 : Int32))), some (.inl v18), some (.inl s7_19)] [] 105) s := by
                intro s o19 h hP19 hE19
                obtain ⟨s2_19, s7_19, m19⟩ := s
                try dsimp only at hP19 hE19 ⊢
                refine G_iload F dX7_inspector_105 rfl ?_
                refine G_aload_n F dX7_inspector_107 rfl ?_
                obtain ⟨v20, e_v20, h⟩ := bnd h
                refine G_getR F okX7 (f := 6) (by decide) q1230 rfl dX7_inspector_108 e_v20 ?_
                refine G_iload F dX7_inspector_111 rfl ?_
                obtain ⟨v21, e_v21, h⟩ := bnd h
                refine G_iald F dX7_inspector_113 e_v21 ?_
                refine G_icmp_ge F (tgt := 169) dX7_inspector_114 (by decide) (fun c22 => ?_) (fun c22 => ?_)
                · have h := itt c22 h
                  cases h
                  exact G_sub F (L2 := [some (.inr a0), some (.inl a1), some (.inl s2_19), some (.inl s3_8), none, none, none, none]) ⟨rfl, ⟨rfl, ⟨rfl, ⟨rfl, trivial⟩⟩⟩⟩ (KE19 _ _ (hE19 _ rfl))
                · have h := itf c22 h
                  refine G_iload F dX7_inspector_117 rfl ?_
                  refine G_iconst F (v := (-1 : Int32)) dX7_inspector_119 (by decide) ?_
                  refine G_icmp_eq F (tgt := 169) dX7_inspector_120 (by decide) (fun c23 => ?_) (fun c23 => ?_)
                  · have h := itt c23 h
                    cases h
                    exact G_sub F (L2 := [some (.inr a0), some (.inl a1), some (.inl s2_19), some (.inl s3_8), none, none, none, none]) ⟨rfl, ⟨rfl, ⟨rfl, ⟨rfl, trivial⟩⟩⟩⟩ (KE19 _ _ (hE19 _ rfl))
                  · have h := itf c23 h
                    refine G_aload_n F dX7_inspector_123 rfl ?_
                    obtain ⟨v24, e_v24, h⟩ := bnd h
                    refine G_getR F okX7 (f := 63) (by decide) q1287 rfl dX7_inspector_124 e_v24 ?_
                    refine G_iload F dX7_inspector_127 rfl ?_
                    refine G_iload F dX7_inspector_129 rfl ?_
                    obtain ⟨v25, e_v25, h⟩ := bnd h
                    refine G_callSv F (As := [.inl (v12 / (8 : Int32)), .inl s7_19]) (st := [.inr v24]) (metX7_at X e_v25) (lw_S q1555 q1556 q109 q1557) hdfX7_at ⟨by omega, by decide⟩ rfl (Nat.le_of_ble_eq_true rfl) ⟨by omega, by omega⟩ dX7_inspector_131 ?_
                    refine G_aload_n F dX7_inspector_134 rfl ?_
                    obtain ⟨v26, e_v26, h⟩ := bnd h
                    refine G_getR F okX7 (f := 63) (by decide) q1287 rfl dX7_inspector_135 e_v26 ?_
                    refine G_iload F dX7_inspector_138 rfl ?_
                    refine G_iload F dX7_inspector_140 rfl ?_
                    obtain ⟨v27, e_v27, h⟩ := bnd h
                    refine G_callSv F (As := [.inl (v12 / (8 : Int32)), .inl s7_19]) (st := [.inr v26, .inl v25, .inr v24]) (metX7_at X e_v27) (lw_S q1555 q1556 q109 q1557) hdfX7_at ⟨by omega, by decide⟩ rfl (Nat.le_of_ble_eq_true rfl) ⟨by omega, by omega⟩ dX7_inspector_142 ?_
                    obtain ⟨v28, e_v28, h⟩ := bnd h
                    refine G_iald F dX7_inspector_145 e_v28 ?_
                    refine G_iload F dX7_inspector_146 rfl ?_
                    refine G_iconst F (v := (1 : Int32)) dX7_inspector_148 (by decide) ?_
                    refine G_iadd F dX7_inspector_149 ?_
                    obtain ⟨v29, e_v29, h⟩ := bnd h
                    refine G_callSv F (As := [.inl v28, .inl (v18 + (1 : Int32))]) (st := [.inl v25, .inr v24]) (metX7_max X e_v29) (lw_S q1613 q1614 q109 q1615) hdfX7_max ⟨by omega, by decide⟩ rfl (Nat.le_of_ble_eq_true rfl) ⟨by omega, by omega⟩ dX7_inspector_150 ?_
                    obtain ⟨m30, e_m30, h⟩ := bnd h
                    refine G_iast F dX7_inspector_153 e_m30 ?_
                    refine G_iload_n F dX7_inspector_154 rfl ?_
                    refine G_iload F dX7_inspector_155 rfl ?_
                    refine G_iconst F (v := (1 : Int32)) dX7_inspector_157 (by decide) ?_
                    refine G_iadd F dX7_inspector_158 ?_
                    obtain ⟨v31, e_v31, h⟩ := bnd h
                    refine G_callSv F (As := [.inl s2_19, .inl (v18 + (1 : Int32))]) (st := []) (metX7_max X e_v31) (lw_S q1613 q1614 q109 q1615) hdfX7_max ⟨by omega, by decide⟩ rfl (Nat.le_of_ble_eq_true rfl) ⟨by omega, by omega⟩ dX7_inspector_159 ?_
                    refine G_istore_n F (L2 := [some (.inr a0), some (.inl a1), some (.inl v31), some (.inl s3_8), none, some (.inl (v12 / (8 : Int32))), some (.inl v18), some (.inl s7_19)]) dX7_inspector_162 (by decide) rfl ?_
                    refine G_iinc F (v := (s7_19 + (1 : Int32))) (L2 := [some (.inr a0), some (.inl a1), some (.inl v31), some (.inl s3_8), none, some (.inl (v12 / (8 : Int32))), some (.inl v18), some (.inl (s7_19 + (1 : Int32)))]) dX7_inspector_163 (by decide) rfl rfl rfl ?_
                    refine G_goto F (tgt := 105) dX7_inspector_166 (by decide) ?_
                    cases h
                    exact G_sub F (L2 := [some (.inr a0), some (.inl a1), some (.inl v31), some (.inl s3_8), none, some (.inl (v12 / (8 : Int32))), some (.inl v18), some (.inl (s7_19 + (1 : Int32)))]) ⟨rfl, ⟨rfl, ⟨rfl, ⟨rfl, ⟨rfl, ⟨rfl, ⟨rfl, trivial⟩⟩⟩⟩⟩⟩⟩ (hP19 _ rfl)
              have hI := iter_ok (fun (s : (Int32 × Int32 × Hp)) => match s with | (s2_19, s7_19, m19) => G X cx 8 (Qm X cx (some (.inl rv)) m_ nx 0 0) (0) (0) m19 (nx) [some (.inr a0), some (.inl a1), some (.inl s2_19), some (.inl s3_8), none, some (.inl (v12 / (8 : Int32))), some (.inl v18), some (.inl s7_19)] [] 105) (fun q => q = r19) KB19 _ _ _ hr19 rfl
              exact G_sub F (L2 := [some (.inr a0), some (.inl a1), some (.inl s2_8), some (.inl s3_8), none, some (.inl (v12 / (8 : Int32))), some (.inl v18), some (.inl ((jrem v12 (8 : Int32)) + (1 : Int32)))]) ⟨rfl, ⟨rfl, ⟨rfl, ⟨rfl, ⟨rfl, ⟨rfl, ⟨rfl, trivial⟩⟩⟩⟩⟩⟩⟩ hI
            · have h := itt c17 h
              refine G_goto F (tgt := 169) dX7_inspector_84 (by decide) ?_
              refine G_iinc F (v := (s3_8 + (1 : Int32))) (L2 := [some (.inr a0), some (.inl a1), some (.inl s2_8), some (.inl (s3_8 + (1 : Int32))), some (.inl v12), some (.inl (v12 / (8 : Int32))), none, none]) dX7_inspector_169 (by decide) rfl rfl rfl ?_
              refine G_goto F (tgt := 35) dX7_inspector_172 (by decide) ?_
              cases h
              exact G_sub F (L2 := [some (.inr a0), some (.inl a1), some (.inl s2_8), some (.inl (s3_8 + (1 : Int32))), none, none, none, none]) ⟨rfl, ⟨rfl, ⟨rfl, ⟨rfl, trivial⟩⟩⟩⟩ (hP8 _ rfl)
      have hI := iter_ok (fun (s : (Int32 × Int32 × Hp)) => match s with | (s2_8, s3_8, m8) => G X cx 8 (Qm X cx (some (.inl rv)) m_ nx 0 0) (0) (0) m8 (nx) [some (.inr a0), some (.inl a1), some (.inl s2_8), some (.inl s3_8), none, none, none, none] [] 35) (fun q => q = r8) KB8 _ _ _ hr8 rfl
      exact G_sub F (L2 := [some (.inr a0), some (.inl a1), some (.inl (0 : Int32)), some (.inl (0 : Int32)), none, none, none, none]) ⟨rfl, ⟨rfl, ⟨rfl, ⟨rfl, trivial⟩⟩⟩⟩ hI
    have KB3 : ∀ s o3, fX7_inspector_L11 a0 a1 s = some o3 → (∀ s', o3 = Sum.inl s' → (fun (s : (Int32 × Hp)) => match s with | (s2_3, m3) => G X cx 8 (Qm X cx (some (.inl rv)) m_ nx 0 0) (0) (0) m3 (nx) [some (.inr a0), some (.inl a1), some (.inl s2_3), none, none, none, none, none] [] 11) s') → (∀ q, o3 = Sum.inr q → q = r3) → (fun (s : (Int32 × Hp)) => match s with | (s2_3, m3) => G X cx 8 (Qm X cx (some (.inl rv)) m_ nx 0 0) (0) (0) m3 (nx) [some (.inr a0), some (.inl a1), some (.inl s2_3), none, none, none, none, none] [] 11) s := by
      intro s o3 h hP3 hE3
      obtain ⟨s2_3, m3⟩ := s
      try dsimp only at hP3 hE3 ⊢
      refine G_iload_n F dX7_inspector_11 rfl ?_
      refine G_sipush F (v := (384 : Int32)) dX7_inspector_12 (by decide) ?_
      refine G_icmp_ge F (tgt := 31) dX7_inspector_15 (by decide) (fun c4 => ?_) (fun c4 => ?_)
      · have h := itt c4 h
        cases h
        exact G_sub F (L2 := [some (.inr a0), some (.inl a1), none, none, none, none, none, none]) ⟨rfl, ⟨rfl, trivial⟩⟩ (KE3 _ (hE3 _ rfl))
      · have h := itf c4 h
        refine G_aload_n F dX7_inspector_18 rfl ?_
        obtain ⟨v5, e_v5, h⟩ := bnd h
        refine G_getR F okX7 (f := 63) (by decide) q1287 rfl dX7_inspector_19 e_v5 ?_
        refine G_iload_n F dX7_inspector_22 rfl ?_
        refine G_iconst F (v := (0 : Int32)) dX7_inspector_23 (by decide) ?_
        obtain ⟨m6, e_m6, h⟩ := bnd h
        refine G_iast F dX7_inspector_24 e_m6 ?_
        refine G_iinc F (v := (s2_3 + (1 : Int32))) (L2 := [some (.inr a0), some (.inl a1), some (.inl (s2_3 + (1 : Int32))), none, none, none, none, none]) dX7_inspector_25 (by decide) rfl rfl rfl ?_
        refine G_goto F (tgt := 11) dX7_inspector_28 (by decide) ?_
        cases h
        exact G_sub F (L2 := [some (.inr a0), some (.inl a1), some (.inl (s2_3 + (1 : Int32))), none, none, none, none, none]) ⟨rfl, ⟨rfl, ⟨rfl, trivial⟩⟩⟩ (hP3 _ rfl)
    have hI := iter_ok (fun (s : (Int32 × Hp)) => match s with | (s2_3, m3) => G X cx 8 (Qm X cx (some (.inl rv)) m_ nx 0 0) (0) (0) m3 (nx) [some (.inr a0), some (.inl a1), some (.inl s2_3), none, none, none, none, none] [] 11) (fun q => q = r3) KB3 _ _ _ hr3 rfl
    exact G_sub F (L2 := [some (.inr a0), some (.inl a1), some (.inl (0 : Int32)), none, none, none, none, none]) ⟨rfl, ⟨rfl, ⟨rfl, trivial⟩⟩⟩ hI
  · have h := itt c2 h
    refine G_iconst F (v := (-1 : Int32)) dX7_inspector_7 (by decide) ?_
    cases h
    exact G_iret F rfl (Nat.le_refl _) (Nat.le_refl _) rfl dX7_inspector_8

theorem metX7_busiest (X : Gx) {m : Hp} {nx : Nat} {a0 : Option Nat} {a1 : Int32} {rv : Int32} (h : fX7_busiest m a0 a1 = some rv) : Con X (3) yX7_busiest cX7_busiest 7 ((Option.some FieldType.int)) [.inr a0, .inl a1] m nx (some (.inl rv)) m 0 0 := by
  refine Con.of (own := RX7) (nm := "busiest") (L := [some (.inr a0), some (.inl a1), none, none, none, none, none]) (by decide +kernel) rfl rfl (Nat.le_of_ble_eq_true rfl) (ent_of 5 rfl) ?_
  intro cx F
  refine G_iload_n F dX7_busiest_0 rfl ?_
  refine G_iconst F (v := (0 : Int32)) dX7_busiest_1 (by decide) ?_
  refine G_iconst F (v := (1 : Int32)) dX7_busiest_2 (by decide) ?_
  obtain ⟨v1, e_v1, h⟩ := bnd h
  refine G_callSv F (As := [.inl a1, .inl (0 : Int32), .inl (1 : Int32)]) (st := []) (metX7_in X e_v1) (lw_S q1427 q1428 q109 q1429) hdfX7_in ⟨by omega, by decide⟩ rfl (Nat.le_of_ble_eq_true rfl) ⟨by omega, by omega⟩ dX7_busiest_3 ?_
  refine G_if_ne F (tgt := 11) dX7_busiest_6 (by decide) (fun c2 => ?_) (fun c2 => ?_)
  · have h := itf c2 h
    refine G_bipush F (v := (-2 : Int32)) dX7_busiest_11 (by decide) ?_
    refine G_istore_n F (L2 := [some (.inr a0), some (.inl a1), some (.inl (-2 : Int32)), none, none, none, none]) dX7_busiest_13 (by decide) rfl ?_
    refine G_iconst F (v := (0 : Int32)) dX7_busiest_14 (by decide) ?_
    refine G_istore_n F (L2 := [some (.inr a0), some (.inl a1), some (.inl (-2 : Int32)), some (.inl (0 : Int32)), none, none, none]) dX7_busiest_15 (by decide) rfl ?_
    refine G_iconst F (v := (0 : Int32)) dX7_busiest_16 (by decide) ?_
    refine G_istore F (L2 := [some (.inr a0), some (.inl a1), some (.inl (-2 : Int32)), some (.inl (0 : Int32)), some (.inl (0 : Int32)), none, none]) dX7_busiest_17 (by decide) rfl ?_
    obtain ⟨r3, hr3, h⟩ := bnd h
    have KE3 : ∀ (v14 : Int32) (v15 : Int32), (v14, v15) = r3 → G X cx 7 (Qm X cx (some (.inl rv)) m nx 0 0) (0) (0) m (nx) [none, some (.inl a1), some (.inl v14), some (.inl v15), none, none, none] [] 95 := by
      intro v14 v15 hq
      subst hq
      try dsimp only at h
      refine G_iload_n F dX7_busiest_95 rfl ?_
      refine G_if_ne F (tgt := 103) dX7_busiest_96 (by decide) (fun c16 => ?_) (fun c16 => ?_)
      · have h := itf c16 h
        refine G_iload_n F dX7_busiest_103 rfl ?_
        cases h
        exact G_iret F rfl (Nat.le_refl _) (Nat.le_refl _) rfl dX7_busiest_104
      · have h := itt c16 h
        refine G_iload_n F dX7_busiest_99 rfl ?_
        refine G_goto F (tgt := 104) dX7_busiest_100 (by decide) ?_
        cases h
        exact G_iret F rfl (Nat.le_refl _) (Nat.le_refl _) rfl dX7_busiest_104
    have KB3 : ∀ s o3, fX7_busiest_L19 m a0 a1 s = some o3 → (∀ s', o3 = Sum.inl s' → (fun (s : (Int32 × Int32 × Int32)) => match s with | (s2_3, s3_3, s4_3) => G X cx 7 (Qm X cx (some (.inl rv)) m nx 0 0) (0) (0) m (nx) [some (.inr a0), some (.inl a1), some (.inl s2_3), some (.inl s3_3), some (.inl s4_3), none, none] [] 19) s') → (∀ q, o3 = Sum.inr q → q = r3) → (fun (s : (Int32 × Int32 × Int32)) => match s with | (s2_3, s3_3, s4_3) => G X cx 7 (Qm X cx (some (.inl rv)) m nx 0 0) (0) (0) m (nx) [some (.inr a0), some (.inl a1), some (.inl s2_3), some (.inl s3_3), some (.inl s4_3), none, none] [] 19) s := by
      intro s o3 h hP3 hE3
      obtain ⟨s2_3, s3_3, s4_3⟩ := s
      try dsimp only at hP3 hE3 ⊢
      refine G_iload F dX7_busiest_19 rfl ?_
      refine G_bipush F (v := (10 : Int32)) dX7_busiest_21 (by decide) ?_
      refine G_icmp_ge F (tgt := 95) dX7_busiest_23 (by decide) (fun c4 => ?_) (fun c4 => ?_)
      · have h := itt c4 h
        cases h
        exact G_sub F (L2 := [none, some (.inl a1), some (.inl s2_3), some (.inl s3_3), none, none, none]) ⟨rfl, ⟨rfl, ⟨rfl, trivial⟩⟩⟩ (KE3 _ _ (hE3 _ rfl))
      · have h := itf c4 h
        refine G_iconst F (v := (0 : Int32)) dX7_busiest_26 (by decide) ?_
        refine G_istore F (L2 := [some (.inr a0), some (.inl a1), some (.inl s2_3), some (.inl s3_3), some (.inl s4_3), some (.inl (0 : Int32)), none]) dX7_busiest_27 (by decide) rfl ?_
        refine G_iconst F (v := (0 : Int32)) dX7_busiest_29 (by decide) ?_
        refine G_istore F (L2 := [some (.inr a0), some (.inl a1), some (.inl s2_3), some (.inl s3_3), some (.inl s4_3), some (.inl (0 : Int32)), some (.inl (0 : Int32))]) dX7_busiest_30 (by decide) rfl ?_
        obtain ⟨r5, hr5, h⟩ := bnd h
        have KE5 : ∀ (v12 : Int32), v12 = r5 → G X cx 7 (Qm X cx (some (.inl rv)) m nx 0 0) (0) (0) m (nx) [some (.inr a0), some (.inl a1), some (.inl s2_3), some (.inl s3_3), some (.inl s4_3), some (.inl v12), none] [] 74 := by
          intro v12 hq
          subst hq
          try dsimp only at h
          refine G_iload F dX7_busiest_74 rfl ?_
          refine G_iload_n F dX7_busiest_76 rfl ?_
          refine G_icmp_gt F (tgt := 83) dX7_busiest_77 (by decide) (fun c13 => ?_) (fun c13 => ?_)
          · have h := itt c13 h
            refine G_iload F dX7_busiest_83 rfl ?_
            refine G_istore_n F (L2 := [some (.inr a0), some (.inl a1), some (.inl s2_3), some (.inl v12), some (.inl s4_3), some (.inl v12), none]) dX7_busiest_85 (by decide) rfl ?_
            refine G_iload F dX7_busiest_86 rfl ?_
            refine G_istore_n F (L2 := [some (.inr a0), some (.inl a1), some (.inl s4_3), some (.inl v12), some (.inl s4_3), some (.inl v12), none]) dX7_busiest_88 (by decide) rfl ?_
            refine G_iinc F (v := (s4_3 + (1 : Int32))) (L2 := [some (.inr a0), some (.inl a1), some (.inl s4_3), some (.inl v12), some (.inl (s4_3 + (1 : Int32))), some (.inl v12), none]) dX7_busiest_89 (by decide) rfl rfl rfl ?_
            refine G_goto F (tgt := 19) dX7_busiest_92 (by decide) ?_
            cases h
            exact G_sub F (L2 := [some (.inr a0), some (.inl a1), some (.inl s4_3), some (.inl v12), some (.inl (s4_3 + (1 : Int32))), none, none]) ⟨rfl, ⟨rfl, ⟨rfl, ⟨rfl, ⟨rfl, trivial⟩⟩⟩⟩⟩ (hP3 _ rfl)
          · have h := itf c13 h
            refine G_goto F (tgt := 89) dX7_busiest_80 (by decide) ?_
            refine G_iinc F (v := (s4_3 + (1 : Int32))) (L2 := [some (.inr a0), some (.inl a1), some (.inl s2_3), some (.inl s3_3), some (.inl (s4_3 + (1 : Int32))), some (.inl v12), none]) dX7_busiest_89 (by decide) rfl rfl rfl ?_
            refine G_goto F (tgt := 19) dX7_busiest_92 (by decide) ?_
            cases h
            exact G_sub F (L2 := [some (.inr a0), some (.inl a1), some (.inl s2_3), some (.inl s3_3), some (.inl (s4_3 + (1 : Int32))), none, none]) ⟨rfl, ⟨rfl, ⟨rfl, ⟨rfl, ⟨rfl, trivial⟩⟩⟩⟩⟩ (hP3 _ rfl)
        have KB5 : ∀ s o5, fX7_busiest_L32 m a0 a1 s2_3 s3_3 s4_3 s = some o5 → (∀ s', o5 = Sum.inl s' → (fun (s : (Int32 × Int32)) => match s with | (s5_5, s6_5) => G X cx 7 (Qm X cx (some (.inl rv)) m nx 0 0) (0) (0) m (nx) [some (.inr a0), some (.inl a1), some (.inl s2_3), some (.inl s3_3), some (.inl s4_3), some (.inl s5_5), some (.inl s6_5)] [] 32) s') → (∀ q, o5 = Sum.inr q → q = r5) → (fun (s : (Int32 × Int32)) => match s with | (s5_5, s6_5) => G X cx 7 (Qm X cx (some (.inl rv)) m nx 0 0) (0) (0) m (nx) [some (.inr a0), some (.inl a1), some (.inl s2_3), some (.inl s3_3), some (.inl s4_3), some (.inl s5_5), some (.inl s6_5)] [] 32) s := by
          intro s o5 h hP5 hE5
          obtain ⟨s5_5, s6_5⟩ := s
          try dsimp only at hP5 hE5 ⊢
          refine G_iload F dX7_busiest_32 rfl ?_
          refine G_aload_n F dX7_busiest_34 rfl ?_
          obtain ⟨v6, e_v6, h⟩ := bnd h
          refine G_getI F okX7 (f := 14) (by decide) q1238 rfl dX7_busiest_35 e_v6 ?_
          refine G_icmp_ge F (tgt := 74) dX7_busiest_38 (by decide) (fun c7 => ?_) (fun c7 => ?_)
          · have h := itt c7 h
            cases h
            exact G_sub F (L2 := [some (.inr a0), some (.inl a1), some (.inl s2_3), some (.inl s3_3), some (.inl s4_3), some (.inl s5_5), none]) ⟨rfl, ⟨rfl, ⟨rfl, ⟨rfl, ⟨rfl, ⟨rfl, trivial⟩⟩⟩⟩⟩⟩ (KE5 _ (hE5 _ rfl))
          · have h := itf c7 h
            refine G_aload_n F dX7_busiest_41 rfl ?_
            refine G_iload F dX7_busiest_42 rfl ?_
            obtain ⟨v8, e_v8, h⟩ := bnd h
            obtain ⟨hc_v8, e_v8⟩ := hp_on_of e_v8
            refine G_callVv F (As := [.inl s6_5]) (st := []) (metX7_runs X e_v8) hc_v8 rfl rfl (lw_V q1582 q1584 qs71 q109 q1585) hdfX7_runs ⟨by omega, by decide⟩ rfl (Nat.le_of_ble_eq_true rfl) ⟨by omega, by omega⟩ dX7_busiest_44 ?_
            refine G_if_eq F (tgt := 68) dX7_busiest_47 (by decide) (fun c9 => ?_) (fun c9 => ?_)
            · have h := itt c9 h
              refine G_iinc F (v := (s6_5 + (1 : Int32))) (L2 := [some (.inr a0), some (.inl a1), some (.inl s2_3), some (.inl s3_3), some (.inl s4_3), some (.inl s5_5), some (.inl (s6_5 + (1 : Int32)))]) dX7_busiest_68 (by decide) rfl rfl rfl ?_
              refine G_goto F (tgt := 32) dX7_busiest_71 (by decide) ?_
              cases h
              exact G_sub F (L2 := [some (.inr a0), some (.inl a1), some (.inl s2_3), some (.inl s3_3), some (.inl s4_3), some (.inl s5_5), some (.inl (s6_5 + (1 : Int32)))]) ⟨rfl, ⟨rfl, ⟨rfl, ⟨rfl, ⟨rfl, ⟨rfl, ⟨rfl, trivial⟩⟩⟩⟩⟩⟩⟩ (hP5 _ rfl)
            · have h := itf c9 h
              refine G_aload_n F dX7_busiest_50 rfl ?_
              refine G_iload F dX7_busiest_51 rfl ?_
              refine G_iload F dX7_busiest_53 rfl ?_
              obtain ⟨v10, e_v10, h⟩ := bnd h
              obtain ⟨hc_v10, e_v10⟩ := hp_on_of e_v10
              refine G_callVv F (As := [.inl s6_5, .inl s4_3]) (st := []) (metX7_stopAt X e_v10) hc_v10 rfl rfl (lw_V q1624 q1626 qs79 q109 q1627) hdfX7_stopAt ⟨by omega, by decide⟩ rfl (Nat.le_of_ble_eq_true rfl) ⟨by omega, by omega⟩ dX7_busiest_55 ?_
              refine G_iconst F (v := (-1 : Int32)) dX7_busiest_58 (by decide) ?_
              refine G_icmp_eq F (tgt := 68) dX7_busiest_59 (by decide) (fun c11 => ?_) (fun c11 => ?_)
              · have h := itt c11 h
                refine G_iinc F (v := (s6_5 + (1 : Int32))) (L2 := [some (.inr a0), some (.inl a1), some (.inl s2_3), some (.inl s3_3), some (.inl s4_3), some (.inl s5_5), some (.inl (s6_5 + (1 : Int32)))]) dX7_busiest_68 (by decide) rfl rfl rfl ?_
                refine G_goto F (tgt := 32) dX7_busiest_71 (by decide) ?_
                cases h
                exact G_sub F (L2 := [some (.inr a0), some (.inl a1), some (.inl s2_3), some (.inl s3_3), some (.inl s4_3), some (.inl s5_5), some (.inl (s6_5 + (1 : Int32)))]) ⟨rfl, ⟨rfl, ⟨rfl, ⟨rfl, ⟨rfl, ⟨rfl, ⟨rfl, trivial⟩⟩⟩⟩⟩⟩⟩ (hP5 _ rfl)
              · have h := itf c11 h
                refine G_iload F dX7_busiest_62 rfl ?_
                refine G_iconst F (v := (1 : Int32)) dX7_busiest_64 (by decide) ?_
                refine G_iadd F dX7_busiest_65 ?_
                refine G_istore F (L2 := [some (.inr a0), some (.inl a1), some (.inl s2_3), some (.inl s3_3), some (.inl s4_3), some (.inl (s5_5 + (1 : Int32))), some (.inl s6_5)]) dX7_busiest_66 (by decide) rfl ?_
                refine G_iinc F (v := (s6_5 + (1 : Int32))) (L2 := [some (.inr a0), some (.inl a1), some (.inl s2_3), some (.inl s3_3), some (.inl s4_3), some (.inl (s5_5 + (1 : Int32))), some (.inl (s6_5 + (1 : Int32)))]) dX7_busiest_68 (by decide) rfl rfl rfl ?_
                refine G_goto F (tgt := 32) dX7_busiest_71 (by decide) ?_
                cases h
                exact G_sub F (L2 := [some (.inr a0), some (.inl a1), some (.inl s2_3), some (.inl s3_3), some (.inl s4_3), some (.inl (s5_5 + (1 : Int32))), some (.inl (s6_5 + (1 : Int32)))]) ⟨rfl, ⟨rfl, ⟨rfl, ⟨rfl, ⟨rfl, ⟨rfl, ⟨rfl, trivial⟩⟩⟩⟩⟩⟩⟩ (hP5 _ rfl)
        have hI := iter_ok (fun (s : (Int32 × Int32)) => match s with | (s5_5, s6_5) => G X cx 7 (Qm X cx (some (.inl rv)) m nx 0 0) (0) (0) m (nx) [some (.inr a0), some (.inl a1), some (.inl s2_3), some (.inl s3_3), some (.inl s4_3), some (.inl s5_5), some (.inl s6_5)] [] 32) (fun q => q = r5) KB5 _ _ _ hr5 rfl
        exact G_sub F (L2 := [some (.inr a0), some (.inl a1), some (.inl s2_3), some (.inl s3_3), some (.inl s4_3), some (.inl (0 : Int32)), some (.inl (0 : Int32))]) ⟨rfl, ⟨rfl, ⟨rfl, ⟨rfl, ⟨rfl, ⟨rfl, ⟨rfl, trivial⟩⟩⟩⟩⟩⟩⟩ hI
    have hI := iter_ok (fun (s : (Int32 × Int32 × Int32)) => match s with | (s2_3, s3_3, s4_3) => G X cx 7 (Qm X cx (some (.inl rv)) m nx 0 0) (0) (0) m (nx) [some (.inr a0), some (.inl a1), some (.inl s2_3), some (.inl s3_3), some (.inl s4_3), none, none] [] 19) (fun q => q = r3) KB3 _ _ _ hr3 rfl
    exact G_sub F (L2 := [some (.inr a0), some (.inl a1), some (.inl (-2 : Int32)), some (.inl (0 : Int32)), some (.inl (0 : Int32)), none, none]) ⟨rfl, ⟨rfl, ⟨rfl, ⟨rfl, ⟨rfl, trivial⟩⟩⟩⟩⟩ hI
  · have h := itt c2 h
    refine G_iconst F (v := (-1 : Int32)) dX7_busiest_9 (by decide) ?_
    cases h
    exact G_iret F rfl (Nat.le_refl _) (Nat.le_refl _) rfl dX7_busiest_10

theorem metX7_onTheWay (X : Gx) {m : Hp} {nx : Nat} {a0 : Option Nat} {a1 : Int32} {rv : Int32} (h : fX7_onTheWay m a0 a1 = some rv) : Con X (3) yX7_onTheWay cX7_onTheWay 4 ((Option.some FieldType.int)) [.inr a0, .inl a1] m nx (some (.inl rv)) m 0 0 := by
  refine Con.of (own := RX7) (nm := "onTheWay") (L := [some (.inr a0), some (.inl a1), none, none]) (by decide +kernel) rfl rfl (Nat.le_of_ble_eq_true rfl) (ent_of 2 rfl) ?_
  intro cx F
  refine G_iload_n F dX7_onTheWay_0 rfl ?_
  refine G_iconst F (v := (0 : Int32)) dX7_onTheWay_1 (by decide) ?_
  refine G_sipush F (v := (1439 : Int32)) dX7_onTheWay_2 (by decide) ?_
  obtain ⟨v1, e_v1, h⟩ := bnd h
  refine G_callSv F (As := [.inl a1, .inl (0 : Int32), .inl (1439 : Int32)]) (st := []) (metX7_in X e_v1) (lw_S q1427 q1428 q109 q1429) hdfX7_in ⟨by omega, by decide⟩ rfl (Nat.le_of_ble_eq_true rfl) ⟨by omega, by omega⟩ dX7_onTheWay_5 ?_
  refine G_if_ne F (tgt := 13) dX7_onTheWay_8 (by decide) (fun c2 => ?_) (fun c2 => ?_)
  · have h := itf c2 h
    refine G_iconst F (v := (0 : Int32)) dX7_onTheWay_13 (by decide) ?_
    refine G_istore_n F (L2 := [some (.inr a0), some (.inl a1), some (.inl (0 : Int32)), none]) dX7_onTheWay_14 (by decide) rfl ?_
    refine G_iconst F (v := (0 : Int32)) dX7_onTheWay_15 (by decide) ?_
    refine G_istore_n F (L2 := [some (.inr a0), some (.inl a1), some (.inl (0 : Int32)), some (.inl (0 : Int32))]) dX7_onTheWay_16 (by decide) rfl ?_
    obtain ⟨r3, hr3, h⟩ := bnd h
    have KE3 : ∀ (v12 : Int32), v12 = r3 → G X cx 4 (Qm X cx (some (.inl rv)) m nx 0 0) (0) (0) m (nx) [none, none, some (.inl v12), none] [] 63 := by
      intro v12 hq
      subst hq
      try dsimp only at h
      refine G_iload_n F dX7_onTheWay_63 rfl ?_
      cases h
      exact G_iret F rfl (Nat.le_refl _) (Nat.le_refl _) rfl dX7_onTheWay_64
    have KB3 : ∀ s o3, fX7_onTheWay_L17 m a0 a1 s = some o3 → (∀ s', o3 = Sum.inl s' → (fun (s : (Int32 × Int32)) => match s with | (s2_3, s3_3) => G X cx 4 (Qm X cx (some (.inl rv)) m nx 0 0) (0) (0) m (nx) [some (.inr a0), some (.inl a1), some (.inl s2_3), some (.inl s3_3)] [] 17) s') → (∀ q, o3 = Sum.inr q → q = r3) → (fun (s : (Int32 × Int32)) => match s with | (s2_3, s3_3) => G X cx 4 (Qm X cx (some (.inl rv)) m nx 0 0) (0) (0) m (nx) [some (.inr a0), some (.inl a1), some (.inl s2_3), some (.inl s3_3)] [] 17) s := by
      intro s o3 h hP3 hE3
      obtain ⟨s2_3, s3_3⟩ := s
      try dsimp only at hP3 hE3 ⊢
      refine G_iload_n F dX7_onTheWay_17 rfl ?_
      refine G_aload_n F dX7_onTheWay_18 rfl ?_
      obtain ⟨v4, e_v4, h⟩ := bnd h
      refine G_getI F okX7 (f := 14) (by decide) q1238 rfl dX7_onTheWay_19 e_v4 ?_
      refine G_icmp_ge F (tgt := 63) dX7_onTheWay_22 (by decide) (fun c5 => ?_) (fun c5 => ?_)
      · have h := itt c5 h
        cases h
        exact G_sub F (L2 := [none, none, some (.inl s2_3), none]) ⟨rfl, trivial⟩ (KE3 _ (hE3 _ rfl))
      · have h := itf c5 h
        refine G_aload_n F dX7_onTheWay_25 rfl ?_
        refine G_iload_n F dX7_onTheWay_26 rfl ?_
        obtain ⟨v6, e_v6, h⟩ := bnd h
        obtain ⟨hc_v6, e_v6⟩ := hp_on_of e_v6
        refine G_callVv F (As := [.inl s3_3]) (st := []) (metX7_runs X e_v6) hc_v6 rfl rfl (lw_V q1582 q1584 qs71 q109 q1585) hdfX7_runs ⟨by omega, by decide⟩ rfl (Nat.le_of_ble_eq_true rfl) ⟨by omega, by omega⟩ dX7_onTheWay_27 ?_
        refine G_if_eq F (tgt := 57) dX7_onTheWay_30 (by decide) (fun c7 => ?_) (fun c7 => ?_)
        · have h := itt c7 h
          refine G_iinc F (v := (s3_3 + (1 : Int32))) (L2 := [some (.inr a0), some (.inl a1), some (.inl s2_3), some (.inl (s3_3 + (1 : Int32)))]) dX7_onTheWay_57 (by decide) rfl rfl rfl ?_
          refine G_goto F (tgt := 17) dX7_onTheWay_60 (by decide) ?_
          cases h
          exact G_sub F (L2 := [some (.inr a0), some (.inl a1), some (.inl s2_3), some (.inl (s3_3 + (1 : Int32)))]) ⟨rfl, ⟨rfl, ⟨rfl, ⟨rfl, trivial⟩⟩⟩⟩ (hP3 _ rfl)
        · have h := itf c7 h
          refine G_iload_n F dX7_onTheWay_33 rfl ?_
          refine G_aload_n F dX7_onTheWay_34 rfl ?_
          refine G_iload_n F dX7_onTheWay_35 rfl ?_
          refine G_iconst F (v := (5 : Int32)) dX7_onTheWay_36 (by decide) ?_
          obtain ⟨v8, e_v8, h⟩ := bnd h
          obtain ⟨hc_v8, e_v8⟩ := hp_on_of e_v8
          refine G_callVv F (As := [.inl s3_3, .inl (5 : Int32)]) (st := [.inl a1]) (metX7_trainIs X e_v8) hc_v8 rfl rfl (lw_V q1744 q1648 q1649 q109 q1650) hdfX7_trainIs ⟨by omega, by decide⟩ rfl (Nat.le_of_ble_eq_true rfl) ⟨by omega, by omega⟩ dX7_onTheWay_37 ?_
          refine G_aload_n F dX7_onTheWay_40 rfl ?_
          refine G_iload_n F dX7_onTheWay_41 rfl ?_
          refine G_bipush F (v := (6 : Int32)) dX7_onTheWay_42 (by decide) ?_
          obtain ⟨v9, e_v9, h⟩ := bnd h
          obtain ⟨hc_v9, e_v9⟩ := hp_on_of e_v9
          refine G_callVv F (As := [.inl s3_3, .inl (6 : Int32)]) (st := [.inl v8, .inl a1]) (metX7_trainIs X e_v9) hc_v9 rfl rfl (lw_V q1744 q1648 q1649 q109 q1650) hdfX7_trainIs ⟨by omega, by decide⟩ rfl (Nat.le_of_ble_eq_true rfl) ⟨by omega, by omega⟩ dX7_onTheWay_44 ?_
          obtain ⟨v10, e_v10, h⟩ := bnd h
          refine G_callSv F (As := [.inl a1, .inl v8, .inl v9]) (st := []) (metX7_in X e_v10) (lw_S q1427 q1428 q109 q1429) hdfX7_in ⟨by omega, by decide⟩ rfl (Nat.le_of_ble_eq_true rfl) ⟨by omega, by omega⟩ dX7_onTheWay_47 ?_
          refine G_if_eq F (tgt := 57) dX7_onTheWay_50 (by decide) (fun c11 => ?_) (fun c11 => ?_)
          · have h := itt c11 h
            refine G_iinc F (v := (s3_3 + (1 : Int32))) (L2 := [some (.inr a0), some (.inl a1), some (.inl s2_3), some (.inl (s3_3 + (1 : Int32)))]) dX7_onTheWay_57 (by decide) rfl rfl rfl ?_
            refine G_goto F (tgt := 17) dX7_onTheWay_60 (by decide) ?_
            cases h
            exact G_sub F (L2 := [some (.inr a0), some (.inl a1), some (.inl s2_3), some (.inl (s3_3 + (1 : Int32)))]) ⟨rfl, ⟨rfl, ⟨rfl, ⟨rfl, trivial⟩⟩⟩⟩ (hP3 _ rfl)
          · have h := itf c11 h
            refine G_iload_n F dX7_onTheWay_53 rfl ?_
            refine G_iconst F (v := (1 : Int32)) dX7_onTheWay_54 (by decide) ?_
            refine G_iadd F dX7_onTheWay_55 ?_
            refine G_istore_n F (L2 := [some (.inr a0), some (.inl a1), some (.inl (s2_3 + (1 : Int32))), some (.inl s3_3)]) dX7_onTheWay_56 (by decide) rfl ?_
            refine G_iinc F (v := (s3_3 + (1 : Int32))) (L2 := [some (.inr a0), some (.inl a1), some (.inl (s2_3 + (1 : Int32))), some (.inl (s3_3 + (1 : Int32)))]) dX7_onTheWay_57 (by decide) rfl rfl rfl ?_
            refine G_goto F (tgt := 17) dX7_onTheWay_60 (by decide) ?_
            cases h
            exact G_sub F (L2 := [some (.inr a0), some (.inl a1), some (.inl (s2_3 + (1 : Int32))), some (.inl (s3_3 + (1 : Int32)))]) ⟨rfl, ⟨rfl, ⟨rfl, ⟨rfl, trivial⟩⟩⟩⟩ (hP3 _ rfl)
    have hI := iter_ok (fun (s : (Int32 × Int32)) => match s with | (s2_3, s3_3) => G X cx 4 (Qm X cx (some (.inl rv)) m nx 0 0) (0) (0) m (nx) [some (.inr a0), some (.inl a1), some (.inl s2_3), some (.inl s3_3)] [] 17) (fun q => q = r3) KB3 _ _ _ hr3 rfl
    exact G_sub F (L2 := [some (.inr a0), some (.inl a1), some (.inl (0 : Int32)), some (.inl (0 : Int32))]) ⟨rfl, ⟨rfl, ⟨rfl, ⟨rfl, trivial⟩⟩⟩⟩ hI
  · have h := itt c2 h
    refine G_iconst F (v := (-1 : Int32)) dX7_onTheWay_11 (by decide) ?_
    cases h
    exact G_iret F rfl (Nat.le_refl _) (Nat.le_refl _) rfl dX7_onTheWay_12

theorem metX7_regular (X : Gx) {m : Hp} {nx : Nat} {a0 : Option Nat} {a1 : Int32} {a2 : Int32} {rv : Int32} (h : fX7_regular m a0 a1 a2 = some rv) : Con X (4) yX7_regular cX7_regular 9 ((Option.some FieldType.int)) [.inr a0, .inl a1, .inl a2] m nx (some (.inl rv)) m 0 0 := by
  refine Con.of (own := RX7) (nm := "regular") (L := [some (.inr a0), some (.inl a1), some (.inl a2), none, none, none, none, none, none]) (by decide +kernel) rfl rfl (Nat.le_of_ble_eq_true rfl) (ent_of 6 rfl) ?_
  intro cx F
  refine G_iload_n F dX7_regular_0 rfl ?_
  obtain ⟨v1, e_v1, h⟩ := bnd h
  refine G_callSv F (As := [.inl a1]) (st := []) (metX7_isStation X e_v1) (lw_S q1433 q1434 q109 q1435) hdfX7_isStation ⟨by omega, by decide⟩ rfl (Nat.le_of_ble_eq_true rfl) ⟨by omega, by omega⟩ dX7_regular_1 ?_
  refine G_if_eq F (tgt := 16) dX7_regular_4 (by decide) (fun c2 => ?_) (fun c2 => ?_)
  · have h := itt c2 h
    refine G_iconst F (v := (-1 : Int32)) dX7_regular_16 (by decide) ?_
    cases h
    exact G_iret F rfl (Nat.le_refl _) (Nat.le_refl _) rfl dX7_regular_17
  · have h := itf c2 h
    refine G_iload_n F dX7_regular_7 rfl ?_
    refine G_iconst F (v := (0 : Int32)) dX7_regular_8 (by decide) ?_
    refine G_iconst F (v := (2 : Int32)) dX7_regular_9 (by decide) ?_
    obtain ⟨v3, e_v3, h⟩ := bnd h
    refine G_callSv F (As := [.inl a2, .inl (0 : Int32), .inl (2 : Int32)]) (st := []) (metX7_in X e_v3) (lw_S q1427 q1428 q109 q1429) hdfX7_in ⟨by omega, by decide⟩ rfl (Nat.le_of_ble_eq_true rfl) ⟨by omega, by omega⟩ dX7_regular_10 ?_
    refine G_if_ne F (tgt := 18) dX7_regular_13 (by decide) (fun c4 => ?_) (fun c4 => ?_)
    · have h := itf c4 h
      refine G_iconst F (v := (0 : Int32)) dX7_regular_18 (by decide) ?_
      refine G_istore_n F (L2 := [some (.inr a0), some (.inl a1), some (.inl a2), some (.inl (0 : Int32)), none, none, none, none, none]) dX7_regular_19 (by decide) rfl ?_
      refine G_bipush F (v := (-2 : Int32)) dX7_regular_20 (by decide) ?_
      refine G_istore F (L2 := [some (.inr a0), some (.inl a1), some (.inl a2), some (.inl (0 : Int32)), some (.inl (-2 : Int32)), none, none, none, none]) dX7_regular_22 (by decide) rfl ?_
      refine G_iconst F (v := (0 : Int32)) dX7_regular_24 (by decide) ?_
      refine G_istore F (L2 := [some (.inr a0), some (.inl a1), some (.inl a2), some (.inl (0 : Int32)), some (.inl (-2 : Int32)), some (.inl (0 : Int32)), none, none, none]) dX7_regular_25 (by decide) rfl ?_
      refine G_iconst F (v := (0 : Int32)) dX7_regular_27 (by decide) ?_
      refine G_istore F (L2 := [some (.inr a0), some (.inl a1), some (.inl a2), some (.inl (0 : Int32)), some (.inl (-2 : Int32)), some (.inl (0 : Int32)), some (.inl (0 : Int32)), none, none]) dX7_regular_28 (by decide) rfl ?_
      obtain ⟨r5, hr5, h⟩ := bnd h
      have KE5 : ∀ (v19 : Int32) (v20 : Int32) (v21 : Int32), (v19, v20, v21) = r5 → G X cx 9 (Qm X cx (some (.inl rv)) m nx 0 0) (0) (0) m (nx) [none, none, some (.inl a2), some (.inl v19), some (.inl v20), some (.inl v21), none, none, none] [] 122 := by
        intro v19 v20 v21 hq
        subst hq
        try dsimp only at h
        refine G_iload_n F dX7_regular_122 rfl ?_
        refine G_if_ne F (tgt := 130) dX7_regular_123 (by decide) (fun c22 => ?_) (fun c22 => ?_)
        · have h := itf c22 h
          refine G_iload_n F dX7_regular_130 rfl ?_
          refine G_iconst F (v := (1 : Int32)) dX7_regular_131 (by decide) ?_
          refine G_icmp_ne F (tgt := 140) dX7_regular_132 (by decide) (fun c23 => ?_) (fun c23 => ?_)
          · have h := itf c23 h
            refine G_iload F dX7_regular_140 rfl ?_
            cases h
            exact G_iret F rfl (Nat.le_refl _) (Nat.le_refl _) rfl dX7_regular_142
          · have h := itt c23 h
            refine G_iload F dX7_regular_135 rfl ?_
            refine G_goto F (tgt := 142) dX7_regular_137 (by decide) ?_
            cases h
            exact G_iret F rfl (Nat.le_refl _) (Nat.le_refl _) rfl dX7_regular_142
        · have h := itt c22 h
          refine G_iload_n F dX7_regular_126 rfl ?_
          refine G_goto F (tgt := 142) dX7_regular_127 (by decide) ?_
          cases h
          exact G_iret F rfl (Nat.le_refl _) (Nat.le_refl _) rfl dX7_regular_142
      have KB5 : ∀ s o5, fX7_regular_L30 m a0 a1 a2 s = some o5 → (∀ s', o5 = Sum.inl s' → (fun (s : (Int32 × Int32 × Int32 × Int32)) => match s with | (s3_5, s4_5, s5_5, s6_5) => G X cx 9 (Qm X cx (some (.inl rv)) m nx 0 0) (0) (0) m (nx) [some (.inr a0), some (.inl a1), some (.inl a2), some (.inl s3_5), some (.inl s4_5), some (.inl s5_5), some (.inl s6_5), none, none] [] 30) s') → (∀ q, o5 = Sum.inr q → q = r5) → (fun (s : (Int32 × Int32 × Int32 × Int32)) => match s with | (s3_5, s4_5, s5_5, s6_5) => G X cx 9 (Qm X cx (some (.inl rv)) m nx 0 0) (0) (0) m (nx) [some (.inr a0), some (.inl a1), some (.inl a2), some (.inl s3_5), some (.inl s4_5), some (.inl s5_5), some (.inl s6_5), none, none] [] 30) s := by
        intro s o5 h hP5 hE5
        obtain ⟨s3_5, s4_5, s5_5, s6_5⟩ := s
        try dsimp only at hP5 hE5 ⊢
        refine G_iload F dX7_regular_30 rfl ?_
        refine G_bipush F (v := (60 : Int32)) dX7_regular_32 (by decide) ?_
        refine G_icmp_ge F (tgt := 122) dX7_regular_34 (by decide) (fun c6 => ?_) (fun c6 => ?_)
        · have h := itt c6 h
          cases h
          exact G_sub F (L2 := [none, none, some (.inl a2), some (.inl s3_5), some (.inl s4_5), some (.inl s5_5), none, none, none]) ⟨rfl, ⟨rfl, ⟨rfl, ⟨rfl, trivial⟩⟩⟩⟩ (KE5 _ _ _ (hE5 _ rfl))
        · have h := itf c6 h
          refine G_iconst F (v := (0 : Int32)) dX7_regular_37 (by decide) ?_
          refine G_istore F (L2 := [some (.inr a0), some (.inl a1), some (.inl a2), some (.inl s3_5), some (.inl s4_5), some (.inl s5_5), some (.inl s6_5), some (.inl (0 : Int32)), none]) dX7_regular_38 (by decide) rfl ?_
          refine G_iconst F (v := (0 : Int32)) dX7_regular_40 (by decide) ?_
          refine G_istore F (L2 := [some (.inr a0), some (.inl a1), some (.inl a2), some (.inl s3_5), some (.inl s4_5), some (.inl s5_5), some (.inl s6_5), some (.inl (0 : Int32)), some (.inl (0 : Int32))]) dX7_regular_41 (by decide) rfl ?_
          obtain ⟨r7, hr7, h⟩ := bnd h
          have KE7 : ∀ (v14 : Int32), v14 = r7 → G X cx 9 (Qm X cx (some (.inl rv)) m nx 0 0) (0) (0) m (nx) [some (.inr a0), some (.inl a1), some (.inl a2), some (.inl s3_5), some (.inl s4_5), some (.inl s5_5), some (.inl s6_5), some (.inl v14), none] [] 89 := by
            intro v14 hq
            subst hq
            try dsimp only at h
            refine G_iload F dX7_regular_89 rfl ?_
            obtain ⟨p16, hp16, h⟩ := bnd h
            have K16 : ∀ (v15 : Int32), v15 = p16 → G X cx 9 (Qm X cx (some (.inl rv)) m nx 0 0) (0) (0) m (nx) [some (.inr a0), some (.inl a1), some (.inl a2), some (.inl v15), some (.inl s4_5), some (.inl s5_5), some (.inl s6_5), some (.inl v14), none] [] 98 := by
              intro v15 hq
              subst hq
              try dsimp only at h
              refine G_iload F dX7_regular_98 rfl ?_
              refine G_iload F dX7_regular_100 rfl ?_
              refine G_icmp_gt F (tgt := 108) dX7_regular_102 (by decide) (fun c17 => ?_) (fun c17 => ?_)
              · have h := itt c17 h
                refine G_iload F dX7_regular_108 rfl ?_
                refine G_istore F (L2 := [some (.inr a0), some (.inl a1), some (.inl a2), some (.inl v15), some (.inl s4_5), some (.inl v14), some (.inl s6_5), some (.inl v14), none]) dX7_regular_110 (by decide) rfl ?_
                refine G_iload F dX7_regular_112 rfl ?_
                refine G_istore F (L2 := [some (.inr a0), some (.inl a1), some (.inl a2), some (.inl v15), some (.inl s6_5), some (.inl v14), some (.inl s6_5), some (.inl v14), none]) dX7_regular_114 (by decide) rfl ?_
                refine G_iinc F (v := (s6_5 + (1 : Int32))) (L2 := [some (.inr a0), some (.inl a1), some (.inl a2), some (.inl v15), some (.inl s6_5), some (.inl v14), some (.inl (s6_5 + (1 : Int32))), some (.inl v14), none]) dX7_regular_116 (by decide) rfl rfl rfl ?_
                refine G_goto F (tgt := 30) dX7_regular_119 (by decide) ?_
                cases h
                exact G_sub F (L2 := [some (.inr a0), some (.inl a1), some (.inl a2), some (.inl v15), some (.inl s6_5), some (.inl v14), some (.inl (s6_5 + (1 : Int32))), none, none]) ⟨rfl, ⟨rfl, ⟨rfl, ⟨rfl, ⟨rfl, ⟨rfl, ⟨rfl, trivial⟩⟩⟩⟩⟩⟩⟩ (hP5 _ rfl)
              · have h := itf c17 h
                refine G_goto F (tgt := 116) dX7_regular_105 (by decide) ?_
                refine G_iinc F (v := (s6_5 + (1 : Int32))) (L2 := [some (.inr a0), some (.inl a1), some (.inl a2), some (.inl v15), some (.inl s4_5), some (.inl s5_5), some (.inl (s6_5 + (1 : Int32))), some (.inl v14), none]) dX7_regular_116 (by decide) rfl rfl rfl ?_
                refine G_goto F (tgt := 30) dX7_regular_119 (by decide) ?_
                cases h
                exact G_sub F (L2 := [some (.inr a0), some (.inl a1), some (.inl a2), some (.inl v15), some (.inl s4_5), some (.inl s5_5), some (.inl (s6_5 + (1 : Int32))), none, none]) ⟨rfl, ⟨rfl, ⟨rfl, ⟨rfl, ⟨rfl, ⟨rfl, ⟨rfl, trivial⟩⟩⟩⟩⟩⟩⟩ (hP5 _ rfl)
            have h := hp16
            clear hp16
            refine G_if_le F (tgt := 98) dX7_regular_91 (by decide) (fun c18 => ?_) (fun c18 => ?_)
            · have h := itt c18 h
              have hq_ := Option.some.inj h
              exact G_sub F (L2 := [some (.inr a0), some (.inl a1), some (.inl a2), some (.inl s3_5), some (.inl s4_5), some (.inl s5_5), some (.inl s6_5), some (.inl v14), none]) ⟨rfl, ⟨rfl, ⟨rfl, ⟨rfl, ⟨rfl, ⟨rfl, ⟨rfl, ⟨rfl, trivial⟩⟩⟩⟩⟩⟩⟩⟩ (K16 _ hq_)
            · have h := itf c18 h
              refine G_iload_n F dX7_regular_94 rfl ?_
              refine G_iconst F (v := (1 : Int32)) dX7_regular_95 (by decide) ?_
              refine G_iadd F dX7_regular_96 ?_
              refine G_istore_n F (L2 := [some (.inr a0), some (.inl a1), some (.inl a2), some (.inl (s3_5 + (1 : Int32))), some (.inl s4_5), some (.inl s5_5), some (.inl s6_5), some (.inl v14), none]) dX7_regular_97 (by decide) rfl ?_
              have hq_ := Option.some.inj h
              exact G_sub F (L2 := [some (.inr a0), some (.inl a1), some (.inl a2), some (.inl (s3_5 + (1 : Int32))), some (.inl s4_5), some (.inl s5_5), some (.inl s6_5), some (.inl v14), none]) ⟨rfl, ⟨rfl, ⟨rfl, ⟨rfl, ⟨rfl, ⟨rfl, ⟨rfl, ⟨rfl, trivial⟩⟩⟩⟩⟩⟩⟩⟩ (K16 _ hq_)
          have KB7 : ∀ s o7, fX7_regular_L43 m a0 a1 a2 s3_5 s4_5 s5_5 s6_5 s = some o7 → (∀ s', o7 = Sum.inl s' → (fun (s : (Int32 × Int32)) => match s with | (s7_7, s8_7) => G X cx 9 (Qm X cx (some (.inl rv)) m nx 0 0) (0) (0) m (nx) [some (.inr a0), some (.inl a1), some (.inl a2), some (.inl s3_5), some (.inl s4_5), some (.inl s5_5), some (.inl s6_5), some (.inl s7_7), some (.inl s8_7)] [] 43) s') → (∀ q, o7 = Sum.inr q → q = r7) → (fun (s : (Int32 × Int32)) => match s with | (s7_7, s8_7) => G X cx 9 (Qm X cx (some (.inl rv)) m nx 0 0) (0) (0) m (nx) [some (.inr a0), some (.inl a1), some (.inl a2), some (.inl s3_5), some (.inl s4_5), some (.inl s5_5), some (.inl s6_5), some (.inl s7_7), some (.inl s8_7)] [] 43) s := by
            intro s o7 h hP7 hE7
            obtain ⟨s7_7, s8_7⟩ := s
            try dsimp only at hP7 hE7 ⊢
            refine G_iload F dX7_regular_43 rfl ?_
            refine G_aload_n F dX7_regular_45 rfl ?_
            obtain ⟨v8, e_v8, h⟩ := bnd h
            refine G_getI F okX7 (f := 14) (by decide) q1238 rfl dX7_regular_46 e_v8 ?_
            refine G_icmp_ge F (tgt := 89) dX7_regular_49 (by decide) (fun c9 => ?_) (fun c9 => ?_)
            · have h := itt c9 h
              cases h
              exact G_sub F (L2 := [some (.inr a0), some (.inl a1), some (.inl a2), some (.inl s3_5), some (.inl s4_5), some (.inl s5_5), some (.inl s6_5), some (.inl s7_7), none]) ⟨rfl, ⟨rfl, ⟨rfl, ⟨rfl, ⟨rfl, ⟨rfl, ⟨rfl, ⟨rfl, trivial⟩⟩⟩⟩⟩⟩⟩⟩ (KE7 _ (hE7 _ rfl))
            · have h := itf c9 h
              refine G_aload_n F dX7_regular_52 rfl ?_
              refine G_iload F dX7_regular_53 rfl ?_
              refine G_iload_n F dX7_regular_55 rfl ?_
              obtain ⟨v10, e_v10, h⟩ := bnd h
              obtain ⟨hc_v10, e_v10⟩ := hp_on_of e_v10
              refine G_callVv F (As := [.inl s8_7, .inl a1]) (st := []) (metX7_leavesFrom X e_v10) hc_v10 rfl rfl (lw_V q1676 q1678 qs85 q109 q1679) hdfX7_leavesFrom ⟨by omega, by decide⟩ rfl (Nat.le_of_ble_eq_true rfl) ⟨by omega, by omega⟩ dX7_regular_56 ?_
              refine G_if_eq F (tgt := 83) dX7_regular_59 (by decide) (fun c11 => ?_) (fun c11 => ?_)
              · have h := itt c11 h
                refine G_iinc F (v := (s8_7 + (1 : Int32))) (L2 := [some (.inr a0), some (.inl a1), some (.inl a2), some (.inl s3_5), some (.inl s4_5), some (.inl s5_5), some (.inl s6_5), some (.inl s7_7), some (.inl (s8_7 + (1 : Int32)))]) dX7_regular_83 (by decide) rfl rfl rfl ?_
                refine G_goto F (tgt := 43) dX7_regular_86 (by decide) ?_
                cases h
                exact G_sub F (L2 := [some (.inr a0), some (.inl a1), some (.inl a2), some (.inl s3_5), some (.inl s4_5), some (.inl s5_5), some (.inl s6_5), some (.inl s7_7), some (.inl (s8_7 + (1 : Int32)))]) ⟨rfl, ⟨rfl, ⟨rfl, ⟨rfl, ⟨rfl, ⟨rfl, ⟨rfl, ⟨rfl, ⟨rfl, trivial⟩⟩⟩⟩⟩⟩⟩⟩⟩ (hP7 _ rfl)
              · have h := itf c11 h
                refine G_aload_n F dX7_regular_62 rfl ?_
                refine G_iload F dX7_regular_63 rfl ?_
                refine G_iload_n F dX7_regular_65 rfl ?_
                obtain ⟨v12, e_v12, h⟩ := bnd h
                obtain ⟨hc_v12, e_v12⟩ := hp_on_of e_v12
                refine G_callVv F (As := [.inl s8_7, .inl a1]) (st := []) (metX7_minuteAt X e_v12) hc_v12 rfl rfl (lw_V q1684 q1686 qs86 q109 q1687) hdfX7_minuteAt ⟨by omega, by decide⟩ rfl (Nat.le_of_ble_eq_true rfl) ⟨by omega, by omega⟩ dX7_regular_66 ?_
                refine G_bipush F (v := (60 : Int32)) dX7_regular_69 (by decide) ?_
                refine G_irem F (by decide) dX7_regular_71 ?_
                refine G_iload F dX7_regular_72 rfl ?_
                refine G_icmp_ne F (tgt := 83) dX7_regular_74 (by decide) (fun c13 => ?_) (fun c13 => ?_)
                · have h := itf c13 h
                  refine G_iinc F (v := (s8_7 + (1 : Int32))) (L2 := [some (.inr a0), some (.inl a1), some (.inl a2), some (.inl s3_5), some (.inl s4_5), some (.inl s5_5), some (.inl s6_5), some (.inl s7_7), some (.inl (s8_7 + (1 : Int32)))]) dX7_regular_83 (by decide) rfl rfl rfl ?_
                  refine G_goto F (tgt := 43) dX7_regular_86 (by decide) ?_
                  cases h
                  exact G_sub F (L2 := [some (.inr a0), some (.inl a1), some (.inl a2), some (.inl s3_5), some (.inl s4_5), some (.inl s5_5), some (.inl s6_5), some (.inl s7_7), some (.inl (s8_7 + (1 : Int32)))]) ⟨rfl, ⟨rfl, ⟨rfl, ⟨rfl, ⟨rfl, ⟨rfl, ⟨rfl, ⟨rfl, ⟨rfl, trivial⟩⟩⟩⟩⟩⟩⟩⟩⟩ (hP7 _ rfl)
                · have h := itt c13 h
                  refine G_iload F dX7_regular_77 rfl ?_
                  refine G_iconst F (v := (1 : Int32)) dX7_regular_79 (by decide) ?_
                  refine G_iadd F dX7_regular_80 ?_
                  refine G_istore F (L2 := [some (.inr a0), some (.inl a1), some (.inl a2), some (.inl s3_5), some (.inl s4_5), some (.inl s5_5), some (.inl s6_5), some (.inl (s7_7 + (1 : Int32))), some (.inl s8_7)]) dX7_regular_81 (by decide) rfl ?_
                  refine G_iinc F (v := (s8_7 + (1 : Int32))) (L2 := [some (.inr a0), some (.inl a1), some (.inl a2), some (.inl s3_5), some (.inl s4_5), some (.inl s5_5), some (.inl s6_5), some (.inl (s7_7 + (1 : Int32))), some (.inl (s8_7 + (1 : Int32)))]) dX7_regular_83 (by decide) rfl rfl rfl ?_
                  refine G_goto F (tgt := 43) dX7_regular_86 (by decide) ?_
                  cases h
                  exact G_sub F (L2 := [some (.inr a0), some (.inl a1), some (.inl a2), some (.inl s3_5), some (.inl s4_5), some (.inl s5_5), some (.inl s6_5), some (.inl (s7_7 + (1 : Int32))), some (.inl (s8_7 + (1 : Int32)))]) ⟨rfl, ⟨rfl, ⟨rfl, ⟨rfl, ⟨rfl, ⟨rfl, ⟨rfl, ⟨rfl, ⟨rfl, trivial⟩⟩⟩⟩⟩⟩⟩⟩⟩ (hP7 _ rfl)
          have hI := iter_ok (fun (s : (Int32 × Int32)) => match s with | (s7_7, s8_7) => G X cx 9 (Qm X cx (some (.inl rv)) m nx 0 0) (0) (0) m (nx) [some (.inr a0), some (.inl a1), some (.inl a2), some (.inl s3_5), some (.inl s4_5), some (.inl s5_5), some (.inl s6_5), some (.inl s7_7), some (.inl s8_7)] [] 43) (fun q => q = r7) KB7 _ _ _ hr7 rfl
          exact G_sub F (L2 := [some (.inr a0), some (.inl a1), some (.inl a2), some (.inl s3_5), some (.inl s4_5), some (.inl s5_5), some (.inl s6_5), some (.inl (0 : Int32)), some (.inl (0 : Int32))]) ⟨rfl, ⟨rfl, ⟨rfl, ⟨rfl, ⟨rfl, ⟨rfl, ⟨rfl, ⟨rfl, ⟨rfl, trivial⟩⟩⟩⟩⟩⟩⟩⟩⟩ hI
      have hI := iter_ok (fun (s : (Int32 × Int32 × Int32 × Int32)) => match s with | (s3_5, s4_5, s5_5, s6_5) => G X cx 9 (Qm X cx (some (.inl rv)) m nx 0 0) (0) (0) m (nx) [some (.inr a0), some (.inl a1), some (.inl a2), some (.inl s3_5), some (.inl s4_5), some (.inl s5_5), some (.inl s6_5), none, none] [] 30) (fun q => q = r5) KB5 _ _ _ hr5 rfl
      exact G_sub F (L2 := [some (.inr a0), some (.inl a1), some (.inl a2), some (.inl (0 : Int32)), some (.inl (-2 : Int32)), some (.inl (0 : Int32)), some (.inl (0 : Int32)), none, none]) ⟨rfl, ⟨rfl, ⟨rfl, ⟨rfl, ⟨rfl, ⟨rfl, ⟨rfl, trivial⟩⟩⟩⟩⟩⟩⟩ hI
    · have h := itt c4 h
      refine G_iconst F (v := (-1 : Int32)) dX7_regular_16 (by decide) ?_
      cases h
      exact G_iret F rfl (Nat.le_refl _) (Nat.le_refl _) rfl dX7_regular_17

theorem metX7_fares (X : Gx) {m : Hp} {nx : Nat} {a0 : Option Nat} {a1 : Int32} {a2 : Int32} {rv : Int32} {m_ : Hp} (h : fX7_fares m a0 a1 a2 = some (rv, m_)) : Con X (2) yX7_fares cX7_fares 5 ((Option.some FieldType.int)) [.inr a0, .inl a1, .inl a2] m nx (some (.inl rv)) m_ 0 0 := by
  refine Con.of (own := RX7) (nm := "fares") (L := [some (.inr a0), some (.inl a1), some (.inl a2), none, none]) (by decide +kernel) rfl rfl (Nat.le_of_ble_eq_true rfl) (ent_of 2 rfl) ?_
  intro cx F
  refine G_iload_n F dX7_fares_0 rfl ?_
  refine G_iconst F (v := (1 : Int32)) dX7_fares_1 (by decide) ?_
  refine G_bipush F (v := (8 : Int32)) dX7_fares_2 (by decide) ?_
  obtain ⟨v1, e_v1, h⟩ := bnd h
  refine G_callSv F (As := [.inl a1, .inl (1 : Int32), .inl (8 : Int32)]) (st := []) (metX7_in X e_v1) (lw_S q1427 q1428 q109 q1429) hdfX7_in ⟨by omega, by decide⟩ rfl (Nat.le_of_ble_eq_true rfl) ⟨by omega, by omega⟩ dX7_fares_4 ?_
  refine G_if_eq F (tgt := 31) dX7_fares_7 (by decide) (fun c2 => ?_) (fun c2 => ?_)
  · have h := itt c2 h
    refine G_iconst F (v := (-1 : Int32)) dX7_fares_31 (by decide) ?_
    cases h
    exact G_iret F rfl (Nat.le_refl _) (Nat.le_refl _) rfl dX7_fares_32
  · have h := itf c2 h
    refine G_iload_n F dX7_fares_10 rfl ?_
    refine G_iconst F (v := (0 : Int32)) dX7_fares_11 (by decide) ?_
    refine G_ldcw F q1781 dX7_fares_12 ?_
    obtain ⟨v3, e_v3, h⟩ := bnd h
    refine G_callSv F (As := [.inl a2, .inl (0 : Int32), .inl (1073741823 : Int32)]) (st := []) (metX7_in X e_v3) (lw_S q1427 q1428 q109 q1429) hdfX7_in ⟨by omega, by decide⟩ rfl (Nat.le_of_ble_eq_true rfl) ⟨by omega, by omega⟩ dX7_fares_15 ?_
    refine G_if_eq F (tgt := 31) dX7_fares_18 (by decide) (fun c4 => ?_) (fun c4 => ?_)
    · have h := itt c4 h
      refine G_iconst F (v := (-1 : Int32)) dX7_fares_31 (by decide) ?_
      cases h
      exact G_iret F rfl (Nat.le_refl _) (Nat.le_refl _) rfl dX7_fares_32
    · have h := itf c4 h
      refine G_iconst F (v := (2 : Int32)) dX7_fares_21 (by decide) ?_
      refine G_iload_n F dX7_fares_22 rfl ?_
      refine G_imul F dX7_fares_23 ?_
      refine G_aload_n F dX7_fares_24 rfl ?_
      obtain ⟨v5, e_v5, h⟩ := bnd h
      refine G_getI F okX7 (f := 17) (by decide) q1241 rfl dX7_fares_25 e_v5 ?_
      refine G_icmp_le F (tgt := 33) dX7_fares_28 (by decide) (fun c6 => ?_) (fun c6 => ?_)
      · have h := itt c6 h
        refine G_aload_n F dX7_fares_33 rfl ?_
        refine G_iconst F (v := (0 : Int32)) dX7_fares_34 (by decide) ?_
        obtain ⟨m7, e_m7, h⟩ := bnd h
        refine G_putV F okX7 (f := 17) (by decide) q1241 rfl rfl dX7_fares_35 (vfit_int _) e_m7 ?_
        refine G_iconst F (v := (0 : Int32)) dX7_fares_38 (by decide) ?_
        refine G_istore_n F (L2 := [some (.inr a0), some (.inl a1), some (.inl a2), some (.inl (0 : Int32)), none]) dX7_fares_39 (by decide) rfl ?_
        obtain ⟨r8, hr8, h⟩ := bnd h
        have KE8 : ∀ (_ : Unit), Sum.inl () = r8 → G X cx 5 (Qm X cx (some (.inl rv)) m_ nx 0 0) (0) (0) m7 (nx) [some (.inr a0), some (.inl a1), some (.inl a2), none, none] [] 82 := by
          intro _ hq
          subst hq
          try dsimp only at h
          refine G_bipush F (v := (60 : Int32)) dX7_fares_82 (by decide) ?_
          refine G_istore_n F (L2 := [some (.inr a0), some (.inl a1), some (.inl a2), some (.inl (60 : Int32)), none]) dX7_fares_84 (by decide) rfl ?_
          obtain ⟨r15, hr15, h⟩ := bnd h
          have KE15 : ∀ (m42 : Hp), m42 = r15 → G X cx 5 (Qm X cx (some (.inl rv)) m_ nx 0 0) (0) (0) m42 (nx) [some (.inr a0), none, none, none, none] [] 198 := by
            intro m42 hq
            subst hq
            try dsimp only at h
            refine G_aload_n F dX7_fares_198 rfl ?_
            obtain ⟨v43, e_v43, h⟩ := bnd h
            refine G_getR F okX7 (f := 64) (by decide) q1288 rfl dX7_fares_199 e_v43 ?_
            refine G_iconst F (v := (0 : Int32)) dX7_fares_202 (by decide) ?_
            obtain ⟨v44, e_v44, h⟩ := bnd h
            refine G_iald F dX7_fares_203 e_v44 ?_
            cases h
            exact G_iret F rfl (Nat.le_refl _) (Nat.le_refl _) rfl dX7_fares_204
          have KB15 : ∀ s o15, fX7_fares_L85 a0 a1 a2 s = some o15 → (∀ s', o15 = Sum.inl s' → (fun (s : (Int32 × Hp)) => match s with | (s3_15, m15) => G X cx 5 (Qm X cx (some (.inl rv)) m_ nx 0 0) (0) (0) m15 (nx) [some (.inr a0), some (.inl a1), some (.inl a2), some (.inl s3_15), none] [] 85) s') → (∀ q, o15 = Sum.inr q → q = r15) → (fun (s : (Int32 × Hp)) => match s with | (s3_15, m15) => G X cx 5 (Qm X cx (some (.inl rv)) m_ nx 0 0) (0) (0) m15 (nx) [some (.inr a0), some (.inl a1), some (.inl a2), some (.inl s3_15), none] [] 85) s := by
            intro s o15 h hP15 hE15
            obtain ⟨s3_15, m15⟩ := s
            try dsimp only at hP15 hE15 ⊢
            refine G_iload_n F dX7_fares_85 rfl ?_
            refine G_if_lt F (tgt := 198) dX7_fares_86 (by decide) (fun c16 => ?_) (fun c16 => ?_)
            · have h := itt c16 h
              cases h
              exact G_sub F (L2 := [some (.inr a0), none, none, none, none]) ⟨rfl, trivial⟩ (KE15 _ (hE15 _ rfl))
            · have h := itf c16 h
              refine G_aload_n F dX7_fares_89 rfl ?_
              obtain ⟨v17, e_v17, h⟩ := bnd h
              refine G_getR F okX7 (f := 64) (by decide) q1288 rfl dX7_fares_90 e_v17 ?_
              refine G_iload_n F dX7_fares_93 rfl ?_
              refine G_iconst F (v := (0 : Int32)) dX7_fares_94 (by decide) ?_
              obtain ⟨m18, e_m18, h⟩ := bnd h
              refine G_iast F dX7_fares_95 e_m18 ?_
              refine G_iload_n F dX7_fares_96 rfl ?_
              refine G_bipush F (v := (30 : Int32)) dX7_fares_97 (by decide) ?_
              refine G_icmp_lt F (tgt := 105) dX7_fares_99 (by decide) (fun c19 => ?_) (fun c19 => ?_)
              · have h := itt c19 h
                refine G_aload_n F dX7_fares_105 rfl ?_
                obtain ⟨v20, e_v20, h⟩ := bnd h
                refine G_getR F okX7 (f := 64) (by decide) q1288 rfl dX7_fares_106 e_v20 ?_
                refine G_iload_n F dX7_fares_109 rfl ?_
                refine G_ldcw F q1667 dX7_fares_110 ?_
                obtain ⟨m21, e_m21, h⟩ := bnd h
                refine G_iast F dX7_fares_113 e_m21 ?_
                refine G_iload_n F dX7_fares_114 rfl ?_
                refine G_iload_n F dX7_fares_115 rfl ?_
                obtain ⟨v22, e_v22, h⟩ := bnd h
                refine G_callSv F (As := [.inl a2, .inl s3_15]) (st := []) (metX7_has X e_v22) (lw_S q1786 q1787 q109 q1788) hdfX7_has ⟨by omega, by decide⟩ rfl (Nat.le_of_ble_eq_true rfl) ⟨by omega, by omega⟩ dX7_fares_116 ?_
                obtain ⟨p24, hp24, h⟩ := bnd h
                have K24 : ∀ (m23 : Hp), m23 = p24 → G X cx 5 (Qm X cx (some (.inl rv)) m_ nx 0 0) (0) (0) m23 (nx) [some (.inr a0), some (.inl a1), some (.inl a2), some (.inl s3_15), none] [] 136 := by
                  intro m23 hq
                  subst hq
                  try dsimp only at h
                  refine G_iconst F (v := (0 : Int32)) dX7_fares_136 (by decide) ?_
                  refine G_istore F (L2 := [some (.inr a0), some (.inl a1), some (.inl a2), some (.inl s3_15), some (.inl (0 : Int32))]) dX7_fares_137 (by decide) rfl ?_
                  obtain ⟨r25, hr25, h⟩ := bnd h
                  have KE25 : ∀ (m36 : Hp), m36 = r25 → G X cx 5 (Qm X cx (some (.inl rv)) m_ nx 0 0) (0) (0) m36 (nx) [some (.inr a0), some (.inl a1), some (.inl a2), some (.inl s3_15), none] [] 192 := by
                    intro m36 hq
                    subst hq
                    try dsimp only at h
                    refine G_iinc F (v := (s3_15 + (-1 : Int32))) (L2 := [some (.inr a0), some (.inl a1), some (.inl a2), some (.inl (s3_15 + (-1 : Int32))), none]) dX7_fares_192 (by decide) rfl rfl rfl ?_
                    refine G_goto F (tgt := 85) dX7_fares_195 (by decide) ?_
                    cases h
                    exact G_sub F (L2 := [some (.inr a0), some (.inl a1), some (.inl a2), some (.inl (s3_15 + (-1 : Int32))), none]) ⟨rfl, ⟨rfl, ⟨rfl, ⟨rfl, trivial⟩⟩⟩⟩ (hP15 _ rfl)
                  have KB25 : ∀ s o25, fX7_fares_L139 a0 a1 a2 s3_15 s = some o25 → (∀ s', o25 = Sum.inl s' → (fun (s : (Int32 × Hp)) => match s with | (s4_25, m25) => G X cx 5 (Qm X cx (some (.inl rv)) m_ nx 0 0) (0) (0) m25 (nx) [some (.inr a0), some (.inl a1), some (.inl a2), some (.inl s3_15), some (.inl s4_25)] [] 139) s') → (∀ q, o25 = Sum.inr q → q = r25) → (fun (s : (Int32 × Hp)) => match s with | (s4_25, m25) => G X cx 5 (Qm X cx (some (.inl rv)) m_ nx 0 0) (0) (0) m25 (nx) [some (.inr a0), some (.inl a1), some (.inl a2), some (.inl s3_15), some (.inl s4_25)] [] 139) s := by
                    intro s o25 h hP25 hE25
                    obtain ⟨s4_25, m25⟩ := s
                    try dsimp only at hP25 hE25 ⊢
                    refine G_iload F dX7_fares_139 rfl ?_
                    refine G_iload_n F dX7_fares_141 rfl ?_
                    refine G_icmp_ge F (tgt := 192) dX7_fares_142 (by decide) (fun c26 => ?_) (fun c26 => ?_)
                    · have h := itt c26 h
                      cases h
                      exact G_sub F (L2 := [some (.inr a0), some (.inl a1), some (.inl a2), some (.inl s3_15), none]) ⟨rfl, ⟨rfl, ⟨rfl, ⟨rfl, trivial⟩⟩⟩⟩ (KE25 _ (hE25 _ rfl))
                    · have h := itf c26 h
                      refine G_aload_n F dX7_fares_145 rfl ?_
                      obtain ⟨v27, e_v27, h⟩ := bnd h
                      refine G_getR F okX7 (f := 64) (by decide) q1288 rfl dX7_fares_146 e_v27 ?_
                      refine G_iload_n F dX7_fares_149 rfl ?_
                      refine G_aload_n F dX7_fares_150 rfl ?_
                      obtain ⟨v28, e_v28, h⟩ := bnd h
                      refine G_getR F okX7 (f := 64) (by decide) q1288 rfl dX7_fares_151 e_v28 ?_
                      refine G_iload_n F dX7_fares_154 rfl ?_
                      obtain ⟨v29, e_v29, h⟩ := bnd h
                      refine G_iald F dX7_fares_155 e_v29 ?_
                      refine G_aload_n F dX7_fares_156 rfl ?_
                      refine G_iconst F (v := (2 : Int32)) dX7_fares_157 (by decide) ?_
                      refine G_iload F dX7_fares_158 rfl ?_
                      refine G_imul F dX7_fares_160 ?_
                      refine G_iconst F (v := (1 : Int32)) dX7_fares_161 (by decide) ?_
                      refine G_iadd F dX7_fares_162 ?_
                      obtain ⟨v30, e_v30, h⟩ := bnd h
                      obtain ⟨hc_v30, e_v30⟩ := hp_on_of e_v30
                      refine G_callVv F (As := [.inl (((2 : Int32) * s4_25) + (1 : Int32))]) (st := [.inl v29, .inl s3_15, .inr v27]) (metX7_octet X e_v30) hc_v30 rfl rfl (lw_V q1782 q1784 qs97 q109 q1785) hdfX7_octet ⟨by omega, by decide⟩ rfl (Nat.le_of_ble_eq_true rfl) ⟨by omega, by omega⟩ dX7_fares_163 ?_
                      refine G_aload_n F dX7_fares_166 rfl ?_
                      obtain ⟨v31, e_v31, h⟩ := bnd h
                      refine G_getR F okX7 (f := 64) (by decide) q1288 rfl dX7_fares_167 e_v31 ?_
                      refine G_iload_n F dX7_fares_170 rfl ?_
                      refine G_aload_n F dX7_fares_171 rfl ?_
                      refine G_iconst F (v := (2 : Int32)) dX7_fares_172 (by decide) ?_
                      refine G_iload F dX7_fares_173 rfl ?_
                      refine G_imul F dX7_fares_175 ?_
                      obtain ⟨v32, e_v32, h⟩ := bnd h
                      obtain ⟨hc_v32, e_v32⟩ := hp_on_of e_v32
                      refine G_callVv F (As := [.inl ((2 : Int32) * s4_25)]) (st := [.inl s3_15, .inr v31, .inl v30, .inl v29, .inl s3_15, .inr v27]) (metX7_octet X e_v32) hc_v32 rfl rfl (lw_V q1782 q1784 qs97 q109 q1785) hdfX7_octet ⟨by omega, by decide⟩ rfl (Nat.le_of_ble_eq_true rfl) ⟨by omega, by omega⟩ dX7_fares_176 ?_
                      refine G_iadd F dX7_fares_179 ?_
                      obtain ⟨v33, e_v33, h⟩ := bnd h
                      refine G_iald F dX7_fares_180 e_v33 ?_
                      refine G_iadd F dX7_fares_181 ?_
                      obtain ⟨v34, e_v34, h⟩ := bnd h
                      refine G_callSv F (As := [.inl v29, .inl (v30 + v33)]) (st := [.inl s3_15, .inr v27]) (metX7_min X e_v34) (lw_S q1610 q1611 q109 q1612) hdfX7_min ⟨by omega, by decide⟩ rfl (Nat.le_of_ble_eq_true rfl) ⟨by omega, by omega⟩ dX7_fares_182 ?_
                      obtain ⟨m35, e_m35, h⟩ := bnd h
                      refine G_iast F dX7_fares_185 e_m35 ?_
                      refine G_iinc F (v := (s4_25 + (1 : Int32))) (L2 := [some (.inr a0), some (.inl a1), some (.inl a2), some (.inl s3_15), some (.inl (s4_25 + (1 : Int32)))]) dX7_fares_186 (by decide) rfl rfl rfl ?_
                      refine G_goto F (tgt := 139) dX7_fares_189 (by decide) ?_
                      cases h
                      exact G_sub F (L2 := [some (.inr a0), some (.inl a1), some (.inl a2), some (.inl s3_15), some (.inl (s4_25 + (1 : Int32)))]) ⟨rfl, ⟨rfl, ⟨rfl, ⟨rfl, ⟨rfl, trivial⟩⟩⟩⟩⟩ (hP25 _ rfl)
                  have hI := iter_ok (fun (s : (Int32 × Hp)) => match s with | (s4_25, m25) => G X cx 5 (Qm X cx (some (.inl rv)) m_ nx 0 0) (0) (0) m25 (nx) [some (.inr a0), some (.inl a1), some (.inl a2), some (.inl s3_15), some (.inl s4_25)] [] 139) (fun q => q = r25) KB25 _ _ _ hr25 rfl
                  exact G_sub F (L2 := [some (.inr a0), some (.inl a1), some (.inl a2), some (.inl s3_15), some (.inl (0 : Int32))]) ⟨rfl, ⟨rfl, ⟨rfl, ⟨rfl, ⟨rfl, trivial⟩⟩⟩⟩⟩ hI
                have h := hp24
                clear hp24
                refine G_if_ne F (tgt := 136) dX7_fares_119 (by decide) (fun c37 => ?_) (fun c37 => ?_)
                · have h := itf c37 h
                  have hq_ := Option.some.inj h
                  exact G_sub F (L2 := [some (.inr a0), some (.inl a1), some (.inl a2), some (.inl s3_15), none]) ⟨rfl, ⟨rfl, ⟨rfl, ⟨rfl, trivial⟩⟩⟩⟩ (K24 _ hq_)
                · have h := itt c37 h
                  refine G_aload_n F dX7_fares_122 rfl ?_
                  obtain ⟨v38, e_v38, h⟩ := bnd h
                  refine G_getR F okX7 (f := 64) (by decide) q1288 rfl dX7_fares_123 e_v38 ?_
                  refine G_iload_n F dX7_fares_126 rfl ?_
                  refine G_aload_n F dX7_fares_127 rfl ?_
                  obtain ⟨v39, e_v39, h⟩ := bnd h
                  refine G_getR F okX7 (f := 64) (by decide) q1288 rfl dX7_fares_128 e_v39 ?_
                  refine G_iload_n F dX7_fares_131 rfl ?_
                  refine G_iconst F (v := (1 : Int32)) dX7_fares_132 (by decide) ?_
                  refine G_iadd F dX7_fares_133 ?_
                  obtain ⟨v40, e_v40, h⟩ := bnd h
                  refine G_iald F dX7_fares_134 e_v40 ?_
                  obtain ⟨m41, e_m41, h⟩ := bnd h
                  refine G_iast F dX7_fares_135 e_m41 ?_
                  have hq_ := Option.some.inj h
                  exact G_sub F (L2 := [some (.inr a0), some (.inl a1), some (.inl a2), some (.inl s3_15), none]) ⟨rfl, ⟨rfl, ⟨rfl, ⟨rfl, trivial⟩⟩⟩⟩ (K24 _ hq_)
              · have h := itf c19 h
                refine G_goto F (tgt := 192) dX7_fares_102 (by decide) ?_
                refine G_iinc F (v := (s3_15 + (-1 : Int32))) (L2 := [some (.inr a0), some (.inl a1), some (.inl a2), some (.inl (s3_15 + (-1 : Int32))), none]) dX7_fares_192 (by decide) rfl rfl rfl ?_
                refine G_goto F (tgt := 85) dX7_fares_195 (by decide) ?_
                cases h
                exact G_sub F (L2 := [some (.inr a0), some (.inl a1), some (.inl a2), some (.inl (s3_15 + (-1 : Int32))), none]) ⟨rfl, ⟨rfl, ⟨rfl, ⟨rfl, trivial⟩⟩⟩⟩ (hP15 _ rfl)
          have hI := iter_ok (fun (s : (Int32 × Hp)) => match s with | (s3_15, m15) => G X cx 5 (Qm X cx (some (.inl rv)) m_ nx 0 0) (0) (0) m15 (nx) [some (.inr a0), some (.inl a1), some (.inl a2), some (.inl s3_15), none] [] 85) (fun q => q = r15) KB15 _ _ _ hr15 rfl
          exact G_sub F (L2 := [some (.inr a0), some (.inl a1), some (.inl a2), some (.inl (60 : Int32)), none]) ⟨rfl, ⟨rfl, ⟨rfl, ⟨rfl, trivial⟩⟩⟩⟩ hI
        have KR8 : ∀ q, Sum.inr q = r8 → some q = some (rv, m_) := by
          intro q hq
          subst hq
          exact h
        have KB8 : ∀ s o8, fX7_fares_L40 m7 a0 a1 a2 s = some o8 → (∀ s', o8 = Sum.inl s' → (fun (s : Int32) => match s with | s3_8 => G X cx 5 (Qm X cx (some (.inl rv)) m_ nx 0 0) (0) (0) m7 (nx) [some (.inr a0), some (.inl a1), some (.inl a2), some (.inl s3_8), none] [] 40) s') → (∀ q, o8 = Sum.inr q → q = r8) → (fun (s : Int32) => match s with | s3_8 => G X cx 5 (Qm X cx (some (.inl rv)) m_ nx 0 0) (0) (0) m7 (nx) [some (.inr a0), some (.inl a1), some (.inl a2), some (.inl s3_8), none] [] 40) s := by
          intro s o8 h hP8 hE8
          obtain ⟨s3_8, hs_⟩ : ∃ x, x = s := ⟨_, rfl⟩
          subst hs_
          try dsimp only at hP8 hE8 ⊢
          refine G_iload_n F dX7_fares_40 rfl ?_
          refine G_iload_n F dX7_fares_41 rfl ?_
          refine G_icmp_ge F (tgt := 82) dX7_fares_42 (by decide) (fun c9 => ?_) (fun c9 => ?_)
          · have h := itt c9 h
            cases h
            exact G_sub F (L2 := [some (.inr a0), some (.inl a1), some (.inl a2), none, none]) ⟨rfl, ⟨rfl, ⟨rfl, trivial⟩⟩⟩ (KE8 () (hE8 _ rfl))
          · have h := itf c9 h
            refine G_aload_n F dX7_fares_45 rfl ?_
            refine G_iconst F (v := (2 : Int32)) dX7_fares_46 (by decide) ?_
            refine G_iload_n F dX7_fares_47 rfl ?_
            refine G_imul F dX7_fares_48 ?_
            obtain ⟨v10, e_v10, h⟩ := bnd h
            obtain ⟨hc_v10, e_v10⟩ := hp_on_of e_v10
            refine G_callVv F (As := [.inl ((2 : Int32) * s3_8)]) (st := []) (metX7_octet X e_v10) hc_v10 rfl rfl (lw_V q1782 q1784 qs97 q109 q1785) hdfX7_octet ⟨by omega, by decide⟩ rfl (Nat.le_of_ble_eq_true rfl) ⟨by omega, by omega⟩ dX7_fares_49 ?_
            refine G_iconst F (v := (1 : Int32)) dX7_fares_52 (by decide) ?_
            refine G_bipush F (v := (30 : Int32)) dX7_fares_53 (by decide) ?_
            obtain ⟨v11, e_v11, h⟩ := bnd h
            refine G_callSv F (As := [.inl v10, .inl (1 : Int32), .inl (30 : Int32)]) (st := []) (metX7_in X e_v11) (lw_S q1427 q1428 q109 q1429) hdfX7_in ⟨by omega, by decide⟩ rfl (Nat.le_of_ble_eq_true rfl) ⟨by omega, by omega⟩ dX7_fares_55 ?_
            refine G_if_eq F (tgt := 73) dX7_fares_58 (by decide) (fun c12 => ?_) (fun c12 => ?_)
            · have h := itt c12 h
              refine G_bipush F (v := (-2 : Int32)) dX7_fares_73 (by decide) ?_
              cases h
              have h := KR8 _ (hE8 _ rfl)
              cases h
              exact G_iret F rfl (Nat.le_refl _) (Nat.le_refl _) rfl dX7_fares_75
            · have h := itf c12 h
              refine G_aload_n F dX7_fares_61 rfl ?_
              refine G_iconst F (v := (2 : Int32)) dX7_fares_62 (by decide) ?_
              refine G_iload_n F dX7_fares_63 rfl ?_
              refine G_imul F dX7_fares_64 ?_
              refine G_iconst F (v := (1 : Int32)) dX7_fares_65 (by decide) ?_
              refine G_iadd F dX7_fares_66 ?_
              obtain ⟨v13, e_v13, h⟩ := bnd h
              obtain ⟨hc_v13, e_v13⟩ := hp_on_of e_v13
              refine G_callVv F (As := [.inl (((2 : Int32) * s3_8) + (1 : Int32))]) (st := []) (metX7_octet X e_v13) hc_v13 rfl rfl (lw_V q1782 q1784 qs97 q109 q1785) hdfX7_octet ⟨by omega, by decide⟩ rfl (Nat.le_of_ble_eq_true rfl) ⟨by omega, by omega⟩ dX7_fares_67 ?_
              refine G_if_ne F (tgt := 76) dX7_fares_70 (by decide) (fun c14 => ?_) (fun c14 => ?_)
              · have h := itf c14 h
                refine G_iinc F (v := (s3_8 + (1 : Int32))) (L2 := [some (.inr a0), some (.inl a1), some (.inl a2), some (.inl (s3_8 + (1 : Int32))), none]) dX7_fares_76 (by decide) rfl rfl rfl ?_
                refine G_goto F (tgt := 40) dX7_fares_79 (by decide) ?_
                cases h
                exact G_sub F (L2 := [some (.inr a0), some (.inl a1), some (.inl a2), some (.inl (s3_8 + (1 : Int32))), none]) ⟨rfl, ⟨rfl, ⟨rfl, ⟨rfl, trivial⟩⟩⟩⟩ (hP8 _ rfl)
              · have h := itt c14 h
                refine G_bipush F (v := (-2 : Int32)) dX7_fares_73 (by decide) ?_
                cases h
                have h := KR8 _ (hE8 _ rfl)
                cases h
                exact G_iret F rfl (Nat.le_refl _) (Nat.le_refl _) rfl dX7_fares_75
        have hI := iter_ok (fun (s : Int32) => match s with | s3_8 => G X cx 5 (Qm X cx (some (.inl rv)) m_ nx 0 0) (0) (0) m7 (nx) [some (.inr a0), some (.inl a1), some (.inl a2), some (.inl s3_8), none] [] 40) (fun q => q = r8) KB8 _ _ _ hr8 rfl
        exact G_sub F (L2 := [some (.inr a0), some (.inl a1), some (.inl a2), some (.inl (0 : Int32)), none]) ⟨rfl, ⟨rfl, ⟨rfl, ⟨rfl, trivial⟩⟩⟩⟩ hI
      · have h := itf c6 h
        refine G_iconst F (v := (-1 : Int32)) dX7_fares_31 (by decide) ?_
        cases h
        exact G_iret F rfl (Nat.le_refl _) (Nat.le_refl _) rfl dX7_fares_32

theorem metX7_seed (X : Gx) {m : Hp} {nx : Nat} {a0 : Option Nat} {a1 : Int32} {rv : Int32} {m_ : Hp} (h : fX7_seed m a0 a1 = some (rv, m_)) : Con X (2) yX7_seed cX7_seed 2 ((Option.some FieldType.boolean)) [.inr a0, .inl a1] m nx (some (.inl rv)) m_ 0 0 := by
  refine Con.of (own := RX7) (nm := "seed") (L := [some (.inr a0), some (.inl a1)]) (by decide +kernel) rfl rfl (Nat.le_of_ble_eq_true rfl) (ent_of 0 rfl) ?_
  intro cx F
  refine G_iload_n F dX7_seed_0 rfl ?_
  refine G_iconst F (v := (0 : Int32)) dX7_seed_1 (by decide) ?_
  refine G_ldcw F q1793 dX7_seed_2 ?_
  obtain ⟨v1, e_v1, h⟩ := bnd h
  refine G_callSv F (As := [.inl a1, .inl (0 : Int32), .inl (65535 : Int32)]) (st := []) (metX7_in X e_v1) (lw_S q1427 q1428 q109 q1429) hdfX7_in ⟨by omega, by decide⟩ rfl (Nat.le_of_ble_eq_true rfl) ⟨by omega, by omega⟩ dX7_seed_5 ?_
  refine G_if_ne F (tgt := 13) dX7_seed_8 (by decide) (fun c2 => ?_) (fun c2 => ?_)
  · have h := itf c2 h
    refine G_aload_n F dX7_seed_13 rfl ?_
    obtain ⟨v3, e_v3, h⟩ := bnd h
    refine G_getR F okX7 (f := 0) (by decide) q1224 rfl dX7_seed_14 e_v3 ?_
    refine G_bipush F (v := (25 : Int32)) dX7_seed_17 (by decide) ?_
    refine G_iload_n F dX7_seed_19 rfl ?_
    obtain ⟨m4, e_m4, h⟩ := bnd h
    refine G_iast F dX7_seed_20 e_m4 ?_
    refine G_iconst F (v := (1 : Int32)) dX7_seed_21 (by decide) ?_
    cases h
    exact G_zret F rfl (Or.inr rfl) (Nat.le_refl _) (Nat.le_refl _) rfl dX7_seed_22
  · have h := itt c2 h
    refine G_iconst F (v := (0 : Int32)) dX7_seed_11 (by decide) ?_
    cases h
    exact G_zret F rfl (Or.inl rfl) (Nat.le_refl _) (Nat.le_refl _) rfl dX7_seed_12

theorem metX7_keep (X : Gx) {m : Hp} {nx : Nat} {a0 : Option Nat} {rv : Int32} {m_ : Hp} (h : fX7_keep m a0 = some (rv, m_)) : Con X (2) yX7_keep cX7_keep 1 ((Option.some FieldType.int)) [.inr a0] m nx (some (.inl rv)) m_ 0 0 := by
  refine Con.of (own := RX7) (nm := "keep") (L := [some (.inr a0)]) (by decide +kernel) rfl rfl (Nat.le_of_ble_eq_true rfl) (ent_of 0 rfl) ?_
  intro cx F
  refine G_aload_n F dX7_keep_0 rfl ?_
  refine G_iconst F (v := (1 : Int32)) dX7_keep_1 (by decide) ?_
  obtain ⟨m1, e_m1, h⟩ := bnd h
  refine G_putV F okX7 (f := 65) (by decide) q1289 rfl rfl dX7_keep_2 (hp_pZ_of e_m1).1 (hp_pZ_of e_m1).2 ?_
  refine G_aload_n F dX7_keep_5 rfl ?_
  obtain ⟨v2, e_v2, h⟩ := bnd h
  refine G_getR F okX7 (f := 0) (by decide) q1224 rfl dX7_keep_6 e_v2 ?_
  refine G_aload_n F dX7_keep_9 rfl ?_
  obtain ⟨v3, e_v3, h⟩ := bnd h
  refine G_getR F okX7 (f := 2) (by decide) q1226 rfl dX7_keep_10 e_v3 ?_
  obtain ⟨m4, e_m4, h⟩ := bnd h
  refine G_callS0 F (As := [.inr v2, .inr v3]) (st := []) (metX7_copies X e_m4) (lw_S q1640 q1641 q109 q1642) hdfX7_copies ⟨by omega, by decide⟩ rfl (Nat.le_of_ble_eq_true rfl) ⟨by omega, by omega⟩ dX7_keep_13 ?_
  refine G_aload_n F dX7_keep_16 rfl ?_
  obtain ⟨v5, e_v5, h⟩ := bnd h
  refine G_getR F okX7 (f := 0) (by decide) q1224 rfl dX7_keep_17 e_v5 ?_
  refine G_bipush F (v := (24 : Int32)) dX7_keep_20 (by decide) ?_
  obtain ⟨v6, e_v6, h⟩ := bnd h
  refine G_iald F dX7_keep_22 e_v6 ?_
  cases h
  exact G_iret F rfl (Nat.le_refl _) (Nat.le_refl _) rfl dX7_keep_23

theorem metX7_undo (X : Gx) {m : Hp} {nx : Nat} {a0 : Option Nat} {rv : Int32} {m_ : Hp} (h : fX7_undo m a0 = some (rv, m_)) : Con X (2) yX7_undo cX7_undo 1 ((Option.some FieldType.boolean)) [.inr a0] m nx (some (.inl rv)) m_ 0 0 := by
  refine Con.of (own := RX7) (nm := "undo") (L := [some (.inr a0)]) (by decide +kernel) rfl rfl (Nat.le_of_ble_eq_true rfl) (ent_of 0 rfl) ?_
  intro cx F
  refine G_aload_n F dX7_undo_0 rfl ?_
  obtain ⟨v1, e_v1, h⟩ := bnd h
  refine G_getI F okX7 (f := 65) (by decide) q1289 rfl dX7_undo_1 e_v1 ?_
  refine G_if_ne F (tgt := 9) dX7_undo_4 (by decide) (fun c2 => ?_) (fun c2 => ?_)
  · have h := itf c2 h
    refine G_aload_n F dX7_undo_9 rfl ?_
    obtain ⟨v3, e_v3, h⟩ := bnd h
    refine G_getR F okX7 (f := 2) (by decide) q1226 rfl dX7_undo_10 e_v3 ?_
    refine G_aload_n F dX7_undo_13 rfl ?_
    obtain ⟨v4, e_v4, h⟩ := bnd h
    refine G_getR F okX7 (f := 0) (by decide) q1224 rfl dX7_undo_14 e_v4 ?_
    obtain ⟨m5, e_m5, h⟩ := bnd h
    refine G_callS0 F (As := [.inr v3, .inr v4]) (st := []) (metX7_copies X e_m5) (lw_S q1640 q1641 q109 q1642) hdfX7_copies ⟨by omega, by decide⟩ rfl (Nat.le_of_ble_eq_true rfl) ⟨by omega, by omega⟩ dX7_undo_17 ?_
    refine G_iconst F (v := (1 : Int32)) dX7_undo_20 (by decide) ?_
    cases h
    exact G_zret F rfl (Or.inr rfl) (Nat.le_refl _) (Nat.le_refl _) rfl dX7_undo_21
  · have h := itt c2 h
    refine G_iconst F (v := (0 : Int32)) dX7_undo_7 (by decide) ?_
    cases h
    exact G_zret F rfl (Or.inl rfl) (Nat.le_refl _) (Nat.le_refl _) rfl dX7_undo_8

theorem metX7_check (X : Gx) {m : Hp} {nx : Nat} {a0 : Option Nat} {a1 : Int32} {rv : Int32} {m_ : Hp} (h : fX7_check m a0 a1 = some (rv, m_)) : Con X (2) yX7_check cX7_check 3 ((Option.some FieldType.int)) [.inr a0, .inl a1] m nx (some (.inl rv)) m_ 0 0 := by
  refine Con.of (own := RX7) (nm := "check") (L := [some (.inr a0), some (.inl a1), none]) (by decide +kernel) rfl rfl (Nat.le_of_ble_eq_true rfl) (ent_of 1 rfl) ?_
  intro cx F
  refine G_iload_n F dX7_check_0 rfl ?_
  refine G_iconst F (v := (0 : Int32)) dX7_check_1 (by decide) ?_
  refine G_bipush F (v := (12 : Int32)) dX7_check_2 (by decide) ?_
  obtain ⟨v1, e_v1, h⟩ := bnd h
  refine G_callSv F (As := [.inl a1, .inl (0 : Int32), .inl (12 : Int32)]) (st := []) (metX7_in X e_v1) (lw_S q1427 q1428 q109 q1429) hdfX7_in ⟨by omega, by decide⟩ rfl (Nat.le_of_ble_eq_true rfl) ⟨by omega, by omega⟩ dX7_check_4 ?_
  refine G_if_eq F (tgt := 18) dX7_check_7 (by decide) (fun c2 => ?_) (fun c2 => ?_)
  · have h := itt c2 h
    refine G_bipush F (v := (-2 : Int32)) dX7_check_18 (by decide) ?_
    cases h
    exact G_iret F rfl (Nat.le_refl _) (Nat.le_refl _) rfl dX7_check_20
  · have h := itf c2 h
    refine G_iload_n F dX7_check_10 rfl ?_
    refine G_aload_n F dX7_check_11 rfl ?_
    obtain ⟨v3, e_v3, h⟩ := bnd h
    refine G_getI F okX7 (f := 17) (by decide) q1241 rfl dX7_check_12 e_v3 ?_
    refine G_icmp_le F (tgt := 21) dX7_check_15 (by decide) (fun c4 => ?_) (fun c4 => ?_)
    · have h := itt c4 h
      refine G_aload_n F dX7_check_21 rfl ?_
      refine G_iconst F (v := (0 : Int32)) dX7_check_22 (by decide) ?_
      obtain ⟨m5, e_m5, h⟩ := bnd h
      refine G_putV F okX7 (f := 17) (by decide) q1241 rfl rfl dX7_check_23 (vfit_int _) e_m5 ?_
      refine G_iconst F (v := (0 : Int32)) dX7_check_26 (by decide) ?_
      refine G_istore_n F (L2 := [some (.inr a0), some (.inl a1), some (.inl (0 : Int32))]) dX7_check_27 (by decide) rfl ?_
      obtain ⟨r6, hr6, h⟩ := bnd h
      have KE6 : ∀ (_ : Unit), Sum.inl () = r6 → G X cx 3 (Qm X cx (some (.inl rv)) m_ nx 0 0) (0) (0) m5 (nx) [none, none, none] [] 75 := by
        intro _ hq
        subst hq
        try dsimp only at h
        refine G_iconst F (v := (-1 : Int32)) dX7_check_75 (by decide) ?_
        cases h
        exact G_iret F rfl (Nat.le_refl _) (Nat.le_refl _) rfl dX7_check_76
      have KR6 : ∀ q, Sum.inr q = r6 → some q = some (rv, m_) := by
        intro q hq
        subst hq
        exact h
      have KB6 : ∀ s o6, fX7_check_L28 m5 a0 a1 s = some o6 → (∀ s', o6 = Sum.inl s' → (fun (s : Int32) => match s with | s2_6 => G X cx 3 (Qm X cx (some (.inl rv)) m_ nx 0 0) (0) (0) m5 (nx) [some (.inr a0), some (.inl a1), some (.inl s2_6)] [] 28) s') → (∀ q, o6 = Sum.inr q → q = r6) → (fun (s : Int32) => match s with | s2_6 => G X cx 3 (Qm X cx (some (.inl rv)) m_ nx 0 0) (0) (0) m5 (nx) [some (.inr a0), some (.inl a1), some (.inl s2_6)] [] 28) s := by
        intro s o6 h hP6 hE6
        obtain ⟨s2_6, hs_⟩ : ∃ x, x = s := ⟨_, rfl⟩
        subst hs_
        try dsimp only at hP6 hE6 ⊢
        refine G_iload_n F dX7_check_28 rfl ?_
        refine G_iload_n F dX7_check_29 rfl ?_
        refine G_icmp_ge F (tgt := 75) dX7_check_30 (by decide) (fun c7 => ?_) (fun c7 => ?_)
        · have h := itt c7 h
          cases h
          exact G_sub F (L2 := [none, none, none]) trivial (KE6 () (hE6 _ rfl))
        · have h := itf c7 h
          refine G_aload_n F dX7_check_33 rfl ?_
          refine G_iload_n F dX7_check_34 rfl ?_
          obtain ⟨v8, e_v8, h⟩ := bnd h
          obtain ⟨hc_v8, e_v8⟩ := hp_on_of e_v8
          refine G_callVv F (As := [.inl s2_6]) (st := []) (metX7_octet X e_v8) hc_v8 rfl rfl (lw_V q1782 q1784 qs97 q109 q1785) hdfX7_octet ⟨by omega, by decide⟩ rfl (Nat.le_of_ble_eq_true rfl) ⟨by omega, by omega⟩ dX7_check_35 ?_
          refine G_aload_n F dX7_check_38 rfl ?_
          obtain ⟨v9, e_v9, h⟩ := bnd h
          refine G_getR F okX7 (f := 11) (by decide) q1235 rfl dX7_check_39 e_v9 ?_
          refine G_iload_n F dX7_check_42 rfl ?_
          obtain ⟨v10, e_v10, h⟩ := bnd h
          refine G_zald F dX7_check_43 e_v10 ?_
          refine G_if_eq F (tgt := 63) dX7_check_44 (by decide) (fun c11 => ?_) (fun c11 => ?_)
          · have h := itt c11 h
            refine G_iconst F (v := (0 : Int32)) dX7_check_63 (by decide) ?_
            refine G_icmp_eq F (tgt := 69) dX7_check_64 (by decide) (fun c12 => ?_) (fun c12 => ?_)
            · have h := itt c12 h
              refine G_iinc F (v := (s2_6 + (1 : Int32))) (L2 := [some (.inr a0), some (.inl a1), some (.inl (s2_6 + (1 : Int32)))]) dX7_check_69 (by decide) rfl rfl rfl ?_
              refine G_goto F (tgt := 28) dX7_check_72 (by decide) ?_
              cases h
              exact G_sub F (L2 := [some (.inr a0), some (.inl a1), some (.inl (s2_6 + (1 : Int32)))]) ⟨rfl, ⟨rfl, ⟨rfl, trivial⟩⟩⟩ (hP6 _ rfl)
            · have h := itf c12 h
              refine G_iload_n F dX7_check_67 rfl ?_
              cases h
              have h := KR6 _ (hE6 _ rfl)
              cases h
              exact G_iret F rfl (Nat.le_refl _) (Nat.le_refl _) rfl dX7_check_68
          · have h := itf c11 h
            refine G_aload_n F dX7_check_47 rfl ?_
            obtain ⟨v13, e_v13, h⟩ := bnd h
            refine G_getR F okX7 (f := 0) (by decide) q1224 rfl dX7_check_48 e_v13 ?_
            refine G_bipush F (v := (12 : Int32)) dX7_check_51 (by decide) ?_
            refine G_iload_n F dX7_check_53 rfl ?_
            refine G_iadd F dX7_check_54 ?_
            obtain ⟨v14, e_v14, h⟩ := bnd h
            refine G_iald F dX7_check_55 e_v14 ?_
            refine G_sipush F (v := (256 : Int32)) dX7_check_56 (by decide) ?_
            refine G_irem F (by decide) dX7_check_59 ?_
            refine G_goto F (tgt := 64) dX7_check_60 (by decide) ?_
            refine G_icmp_eq F (tgt := 69) dX7_check_64 (by decide) (fun c15 => ?_) (fun c15 => ?_)
            · have h := itt c15 h
              refine G_iinc F (v := (s2_6 + (1 : Int32))) (L2 := [some (.inr a0), some (.inl a1), some (.inl (s2_6 + (1 : Int32)))]) dX7_check_69 (by decide) rfl rfl rfl ?_
              refine G_goto F (tgt := 28) dX7_check_72 (by decide) ?_
              cases h
              exact G_sub F (L2 := [some (.inr a0), some (.inl a1), some (.inl (s2_6 + (1 : Int32)))]) ⟨rfl, ⟨rfl, ⟨rfl, trivial⟩⟩⟩ (hP6 _ rfl)
            · have h := itf c15 h
              refine G_iload_n F dX7_check_67 rfl ?_
              cases h
              have h := KR6 _ (hE6 _ rfl)
              cases h
              exact G_iret F rfl (Nat.le_refl _) (Nat.le_refl _) rfl dX7_check_68
      have hI := iter_ok (fun (s : Int32) => match s with | s2_6 => G X cx 3 (Qm X cx (some (.inl rv)) m_ nx 0 0) (0) (0) m5 (nx) [some (.inr a0), some (.inl a1), some (.inl s2_6)] [] 28) (fun q => q = r6) KB6 _ _ _ hr6 rfl
      exact G_sub F (L2 := [some (.inr a0), some (.inl a1), some (.inl (0 : Int32))]) ⟨rfl, ⟨rfl, ⟨rfl, trivial⟩⟩⟩ hI
    · have h := itf c4 h
      refine G_bipush F (v := (-2 : Int32)) dX7_check_18 (by decide) ?_
      cases h
      exact G_iret F rfl (Nat.le_refl _) (Nat.le_refl _) rfl dX7_check_20

theorem metX7_allOf (X : Gx) {m : Hp} {nx : Nat} {a0 : Option Nat} {a1 : Int32} {rv : Int32} (h : fX7_allOf m a0 a1 = some rv) : Con X (1) yX7_allOf cX7_allOf 4 ((Option.some FieldType.int)) [.inr a0, .inl a1] m nx (some (.inl rv)) m 0 0 := by
  refine Con.of (own := RX7) (nm := "allOf") (L := [some (.inr a0), some (.inl a1), none, none]) (by decide +kernel) rfl rfl (Nat.le_of_ble_eq_true rfl) (ent_of 2 rfl) ?_
  intro cx F
  refine G_iconst F (v := (0 : Int32)) dX7_allOf_0 (by decide) ?_
  refine G_istore_n F (L2 := [some (.inr a0), some (.inl a1), some (.inl (0 : Int32)), none]) dX7_allOf_1 (by decide) rfl ?_
  refine G_iconst F (v := (0 : Int32)) dX7_allOf_2 (by decide) ?_
  refine G_istore_n F (L2 := [some (.inr a0), some (.inl a1), some (.inl (0 : Int32)), some (.inl (0 : Int32))]) dX7_allOf_3 (by decide) rfl ?_
  obtain ⟨r1, hr1, h⟩ := bnd h
  have KE1 : ∀ (v8 : Int32), v8 = r1 → G X cx 4 (Qm X cx (some (.inl rv)) m nx 0 0) (0) (0) m (nx) [none, none, some (.inl v8), none] [] 36 := by
    intro v8 hq
    subst hq
    try dsimp only at h
    refine G_iload_n F dX7_allOf_36 rfl ?_
    cases h
    exact G_iret F rfl (Nat.le_refl _) (Nat.le_refl _) rfl dX7_allOf_37
  have KB1 : ∀ s o1, fX7_allOf_L4 m a0 a1 s = some o1 → (∀ s', o1 = Sum.inl s' → (fun (s : (Int32 × Int32)) => match s with | (s2_1, s3_1) => G X cx 4 (Qm X cx (some (.inl rv)) m nx 0 0) (0) (0) m (nx) [some (.inr a0), some (.inl a1), some (.inl s2_1), some (.inl s3_1)] [] 4) s') → (∀ q, o1 = Sum.inr q → q = r1) → (fun (s : (Int32 × Int32)) => match s with | (s2_1, s3_1) => G X cx 4 (Qm X cx (some (.inl rv)) m nx 0 0) (0) (0) m (nx) [some (.inr a0), some (.inl a1), some (.inl s2_1), some (.inl s3_1)] [] 4) s := by
    intro s o1 h hP1 hE1
    obtain ⟨s2_1, s3_1⟩ := s
    try dsimp only at hP1 hE1 ⊢
    refine G_iload_n F dX7_allOf_4 rfl ?_
    refine G_bipush F (v := (12 : Int32)) dX7_allOf_5 (by decide) ?_
    refine G_icmp_ge F (tgt := 36) dX7_allOf_7 (by decide) (fun c2 => ?_) (fun c2 => ?_)
    · have h := itt c2 h
      cases h
      exact G_sub F (L2 := [none, none, some (.inl s2_1), none]) ⟨rfl, trivial⟩ (KE1 _ (hE1 _ rfl))
    · have h := itf c2 h
      refine G_aload_n F dX7_allOf_10 rfl ?_
      obtain ⟨v3, e_v3, h⟩ := bnd h
      refine G_getR F okX7 (f := 11) (by decide) q1235 rfl dX7_allOf_11 e_v3 ?_
      refine G_iload_n F dX7_allOf_14 rfl ?_
      obtain ⟨v4, e_v4, h⟩ := bnd h
      refine G_zald F dX7_allOf_15 e_v4 ?_
      refine G_if_eq F (tgt := 30) dX7_allOf_16 (by decide) (fun c5 => ?_) (fun c5 => ?_)
      · have h := itt c5 h
        refine G_iinc F (v := (s3_1 + (1 : Int32))) (L2 := [some (.inr a0), some (.inl a1), some (.inl s2_1), some (.inl (s3_1 + (1 : Int32)))]) dX7_allOf_30 (by decide) rfl rfl rfl ?_
        refine G_goto F (tgt := 4) dX7_allOf_33 (by decide) ?_
        cases h
        exact G_sub F (L2 := [some (.inr a0), some (.inl a1), some (.inl s2_1), some (.inl (s3_1 + (1 : Int32)))]) ⟨rfl, ⟨rfl, ⟨rfl, ⟨rfl, trivial⟩⟩⟩⟩ (hP1 _ rfl)
      · have h := itf c5 h
        refine G_iload_n F dX7_allOf_19 rfl ?_
        refine G_aload_n F dX7_allOf_20 rfl ?_
        obtain ⟨v6, e_v6, h⟩ := bnd h
        refine G_getR F okX7 (f := 0) (by decide) q1224 rfl dX7_allOf_21 e_v6 ?_
        refine G_iload_n F dX7_allOf_24 rfl ?_
        refine G_iload_n F dX7_allOf_25 rfl ?_
        refine G_iadd F dX7_allOf_26 ?_
        obtain ⟨v7, e_v7, h⟩ := bnd h
        refine G_iald F dX7_allOf_27 e_v7 ?_
        refine G_iadd F dX7_allOf_28 ?_
        refine G_istore_n F (L2 := [some (.inr a0), some (.inl a1), some (.inl (s2_1 + v7)), some (.inl s3_1)]) dX7_allOf_29 (by decide) rfl ?_
        refine G_iinc F (v := (s3_1 + (1 : Int32))) (L2 := [some (.inr a0), some (.inl a1), some (.inl (s2_1 + v7)), some (.inl (s3_1 + (1 : Int32)))]) dX7_allOf_30 (by decide) rfl rfl rfl ?_
        refine G_goto F (tgt := 4) dX7_allOf_33 (by decide) ?_
        cases h
        exact G_sub F (L2 := [some (.inr a0), some (.inl a1), some (.inl (s2_1 + v7)), some (.inl (s3_1 + (1 : Int32)))]) ⟨rfl, ⟨rfl, ⟨rfl, ⟨rfl, trivial⟩⟩⟩⟩ (hP1 _ rfl)
  have hI := iter_ok (fun (s : (Int32 × Int32)) => match s with | (s2_1, s3_1) => G X cx 4 (Qm X cx (some (.inl rv)) m nx 0 0) (0) (0) m (nx) [some (.inr a0), some (.inl a1), some (.inl s2_1), some (.inl s3_1)] [] 4) (fun q => q = r1) KB1 _ _ _ hr1 rfl
  exact G_sub F (L2 := [some (.inr a0), some (.inl a1), some (.inl (0 : Int32)), some (.inl (0 : Int32))]) ⟨rfl, ⟨rfl, ⟨rfl, ⟨rfl, trivial⟩⟩⟩⟩ hI

theorem metX7_toldSet (X : Gx) {m : Hp} {nx : Nat} {a0 : Option Nat} {rv : Int32} (h : fX7_toldSet m a0 = some rv) : Con X (1) yX7_toldSet cX7_toldSet 3 ((Option.some FieldType.int)) [.inr a0] m nx (some (.inl rv)) m 0 0 := by
  refine Con.of (own := RX7) (nm := "toldSet") (L := [some (.inr a0), none, none]) (by decide +kernel) rfl rfl (Nat.le_of_ble_eq_true rfl) (ent_of 2 rfl) ?_
  intro cx F
  refine G_iconst F (v := (0 : Int32)) dX7_toldSet_0 (by decide) ?_
  refine G_istore_n F (L2 := [some (.inr a0), some (.inl (0 : Int32)), none]) dX7_toldSet_1 (by decide) rfl ?_
  refine G_iconst F (v := (0 : Int32)) dX7_toldSet_2 (by decide) ?_
  refine G_istore_n F (L2 := [some (.inr a0), some (.inl (0 : Int32)), some (.inl (0 : Int32))]) dX7_toldSet_3 (by decide) rfl ?_
  obtain ⟨r1, hr1, h⟩ := bnd h
  have KE1 : ∀ (v6 : Int32), v6 = r1 → G X cx 3 (Qm X cx (some (.inl rv)) m nx 0 0) (0) (0) m (nx) [none, some (.inl v6), none] [] 31 := by
    intro v6 hq
    subst hq
    try dsimp only at h
    refine G_iload_n F dX7_toldSet_31 rfl ?_
    cases h
    exact G_iret F rfl (Nat.le_refl _) (Nat.le_refl _) rfl dX7_toldSet_32
  have KB1 : ∀ s o1, fX7_toldSet_L4 m a0 s = some o1 → (∀ s', o1 = Sum.inl s' → (fun (s : (Int32 × Int32)) => match s with | (s1_1, s2_1) => G X cx 3 (Qm X cx (some (.inl rv)) m nx 0 0) (0) (0) m (nx) [some (.inr a0), some (.inl s1_1), some (.inl s2_1)] [] 4) s') → (∀ q, o1 = Sum.inr q → q = r1) → (fun (s : (Int32 × Int32)) => match s with | (s1_1, s2_1) => G X cx 3 (Qm X cx (some (.inl rv)) m nx 0 0) (0) (0) m (nx) [some (.inr a0), some (.inl s1_1), some (.inl s2_1)] [] 4) s := by
    intro s o1 h hP1 hE1
    obtain ⟨s1_1, s2_1⟩ := s
    try dsimp only at hP1 hE1 ⊢
    refine G_iload_n F dX7_toldSet_4 rfl ?_
    refine G_bipush F (v := (12 : Int32)) dX7_toldSet_5 (by decide) ?_
    refine G_icmp_ge F (tgt := 31) dX7_toldSet_7 (by decide) (fun c2 => ?_) (fun c2 => ?_)
    · have h := itt c2 h
      cases h
      exact G_sub F (L2 := [none, some (.inl s1_1), none]) ⟨rfl, trivial⟩ (KE1 _ (hE1 _ rfl))
    · have h := itf c2 h
      refine G_aload_n F dX7_toldSet_10 rfl ?_
      obtain ⟨v3, e_v3, h⟩ := bnd h
      refine G_getR F okX7 (f := 11) (by decide) q1235 rfl dX7_toldSet_11 e_v3 ?_
      refine G_iload_n F dX7_toldSet_14 rfl ?_
      obtain ⟨v4, e_v4, h⟩ := bnd h
      refine G_zald F dX7_toldSet_15 e_v4 ?_
      refine G_if_eq F (tgt := 25) dX7_toldSet_16 (by decide) (fun c5 => ?_) (fun c5 => ?_)
      · have h := itt c5 h
        refine G_iinc F (v := (s2_1 + (1 : Int32))) (L2 := [some (.inr a0), some (.inl s1_1), some (.inl (s2_1 + (1 : Int32)))]) dX7_toldSet_25 (by decide) rfl rfl rfl ?_
        refine G_goto F (tgt := 4) dX7_toldSet_28 (by decide) ?_
        cases h
        exact G_sub F (L2 := [some (.inr a0), some (.inl s1_1), some (.inl (s2_1 + (1 : Int32)))]) ⟨rfl, ⟨rfl, ⟨rfl, trivial⟩⟩⟩ (hP1 _ rfl)
      · have h := itf c5 h
        refine G_iload_n F dX7_toldSet_19 rfl ?_
        refine G_iconst F (v := (1 : Int32)) dX7_toldSet_20 (by decide) ?_
        refine G_iload_n F dX7_toldSet_21 rfl ?_
        refine G_ishl F dX7_toldSet_22 ?_
        refine G_ior F dX7_toldSet_23 ?_
        refine G_istore_n F (L2 := [some (.inr a0), some (.inl (s1_1 ||| (jshl (1 : Int32) s2_1))), some (.inl s2_1)]) dX7_toldSet_24 (by decide) rfl ?_
        refine G_iinc F (v := (s2_1 + (1 : Int32))) (L2 := [some (.inr a0), some (.inl (s1_1 ||| (jshl (1 : Int32) s2_1))), some (.inl (s2_1 + (1 : Int32)))]) dX7_toldSet_25 (by decide) rfl rfl rfl ?_
        refine G_goto F (tgt := 4) dX7_toldSet_28 (by decide) ?_
        cases h
        exact G_sub F (L2 := [some (.inr a0), some (.inl (s1_1 ||| (jshl (1 : Int32) s2_1))), some (.inl (s2_1 + (1 : Int32)))]) ⟨rfl, ⟨rfl, ⟨rfl, trivial⟩⟩⟩ (hP1 _ rfl)
  have hI := iter_ok (fun (s : (Int32 × Int32)) => match s with | (s1_1, s2_1) => G X cx 3 (Qm X cx (some (.inl rv)) m nx 0 0) (0) (0) m (nx) [some (.inr a0), some (.inl s1_1), some (.inl s2_1)] [] 4) (fun q => q = r1) KB1 _ _ _ hr1 rfl
  exact G_sub F (L2 := [some (.inr a0), some (.inl (0 : Int32)), some (.inl (0 : Int32))]) ⟨rfl, ⟨rfl, ⟨rfl, trivial⟩⟩⟩ hI

theorem metX7_running (X : Gx) {m : Hp} {nx : Nat} {a0 : Option Nat} {rv : Int32} (h : fX7_running m a0 = some rv) : Con X (3) yX7_running cX7_running 3 ((Option.some FieldType.int)) [.inr a0] m nx (some (.inl rv)) m 0 0 := by
  refine Con.of (own := RX7) (nm := "running") (L := [some (.inr a0), none, none]) (by decide +kernel) rfl rfl (Nat.le_of_ble_eq_true rfl) (ent_of 2 rfl) ?_
  intro cx F
  refine G_iconst F (v := (0 : Int32)) dX7_running_0 (by decide) ?_
  refine G_istore_n F (L2 := [some (.inr a0), some (.inl (0 : Int32)), none]) dX7_running_1 (by decide) rfl ?_
  refine G_iconst F (v := (0 : Int32)) dX7_running_2 (by decide) ?_
  refine G_istore_n F (L2 := [some (.inr a0), some (.inl (0 : Int32)), some (.inl (0 : Int32))]) dX7_running_3 (by decide) rfl ?_
  obtain ⟨r1, hr1, h⟩ := bnd h
  have KE1 : ∀ (v6 : Int32), v6 = r1 → G X cx 3 (Qm X cx (some (.inl rv)) m nx 0 0) (0) (0) m (nx) [none, some (.inl v6), none] [] 30 := by
    intro v6 hq
    subst hq
    try dsimp only at h
    refine G_iload_n F dX7_running_30 rfl ?_
    cases h
    exact G_iret F rfl (Nat.le_refl _) (Nat.le_refl _) rfl dX7_running_31
  have KB1 : ∀ s o1, fX7_running_L4 m a0 s = some o1 → (∀ s', o1 = Sum.inl s' → (fun (s : (Int32 × Int32)) => match s with | (s1_1, s2_1) => G X cx 3 (Qm X cx (some (.inl rv)) m nx 0 0) (0) (0) m (nx) [some (.inr a0), some (.inl s1_1), some (.inl s2_1)] [] 4) s') → (∀ q, o1 = Sum.inr q → q = r1) → (fun (s : (Int32 × Int32)) => match s with | (s1_1, s2_1) => G X cx 3 (Qm X cx (some (.inl rv)) m nx 0 0) (0) (0) m (nx) [some (.inr a0), some (.inl s1_1), some (.inl s2_1)] [] 4) s := by
    intro s o1 h hP1 hE1
    obtain ⟨s1_1, s2_1⟩ := s
    try dsimp only at hP1 hE1 ⊢
    refine G_iload_n F dX7_running_4 rfl ?_
    refine G_aload_n F dX7_running_5 rfl ?_
    obtain ⟨v2, e_v2, h⟩ := bnd h
    refine G_getI F okX7 (f := 14) (by decide) q1238 rfl dX7_running_6 e_v2 ?_
    refine G_icmp_ge F (tgt := 30) dX7_running_9 (by decide) (fun c3 => ?_) (fun c3 => ?_)
    · have h := itt c3 h
      cases h
      exact G_sub F (L2 := [none, some (.inl s1_1), none]) ⟨rfl, trivial⟩ (KE1 _ (hE1 _ rfl))
    · have h := itf c3 h
      refine G_aload_n F dX7_running_12 rfl ?_
      refine G_iload_n F dX7_running_13 rfl ?_
      obtain ⟨v4, e_v4, h⟩ := bnd h
      obtain ⟨hc_v4, e_v4⟩ := hp_on_of e_v4
      refine G_callVv F (As := [.inl s2_1]) (st := []) (metX7_runs X e_v4) hc_v4 rfl rfl (lw_V q1582 q1584 qs71 q109 q1585) hdfX7_runs ⟨by omega, by decide⟩ rfl (Nat.le_of_ble_eq_true rfl) ⟨by omega, by omega⟩ dX7_running_14 ?_
      refine G_if_eq F (tgt := 24) dX7_running_17 (by decide) (fun c5 => ?_) (fun c5 => ?_)
      · have h := itt c5 h
        refine G_iinc F (v := (s2_1 + (1 : Int32))) (L2 := [some (.inr a0), some (.inl s1_1), some (.inl (s2_1 + (1 : Int32)))]) dX7_running_24 (by decide) rfl rfl rfl ?_
        refine G_goto F (tgt := 4) dX7_running_27 (by decide) ?_
        cases h
        exact G_sub F (L2 := [some (.inr a0), some (.inl s1_1), some (.inl (s2_1 + (1 : Int32)))]) ⟨rfl, ⟨rfl, ⟨rfl, trivial⟩⟩⟩ (hP1 _ rfl)
      · have h := itf c5 h
        refine G_iload_n F dX7_running_20 rfl ?_
        refine G_iconst F (v := (1 : Int32)) dX7_running_21 (by decide) ?_
        refine G_iadd F dX7_running_22 ?_
        refine G_istore_n F (L2 := [some (.inr a0), some (.inl (s1_1 + (1 : Int32))), some (.inl s2_1)]) dX7_running_23 (by decide) rfl ?_
        refine G_iinc F (v := (s2_1 + (1 : Int32))) (L2 := [some (.inr a0), some (.inl (s1_1 + (1 : Int32))), some (.inl (s2_1 + (1 : Int32)))]) dX7_running_24 (by decide) rfl rfl rfl ?_
        refine G_goto F (tgt := 4) dX7_running_27 (by decide) ?_
        cases h
        exact G_sub F (L2 := [some (.inr a0), some (.inl (s1_1 + (1 : Int32))), some (.inl (s2_1 + (1 : Int32)))]) ⟨rfl, ⟨rfl, ⟨rfl, trivial⟩⟩⟩ (hP1 _ rfl)
  have hI := iter_ok (fun (s : (Int32 × Int32)) => match s with | (s1_1, s2_1) => G X cx 3 (Qm X cx (some (.inl rv)) m nx 0 0) (0) (0) m (nx) [some (.inr a0), some (.inl s1_1), some (.inl s2_1)] [] 4) (fun q => q = r1) KB1 _ _ _ hr1 rfl
  exact G_sub F (L2 := [some (.inr a0), some (.inl (0 : Int32)), some (.inl (0 : Int32))]) ⟨rfl, ⟨rfl, ⟨rfl, trivial⟩⟩⟩ hI

theorem metX7_count (X : Gx) {m : Hp} {nx : Nat} {a0 : Option Nat} {a1 : Int32} {rv : Int32} (h : fX7_count m a0 a1 = some rv) : Con X (4) yX7_count cX7_count 2 ((Option.some FieldType.int)) [.inr a0, .inl a1] m nx (some (.inl rv)) m 0 0 := by
  refine Con.of (own := RX7) (nm := "count") (L := [some (.inr a0), some (.inl a1)]) (by decide +kernel) rfl rfl (Nat.le_of_ble_eq_true rfl) (ent_of 0 rfl) ?_
  intro cx F
  refine G_iload_n F dX7_count_0 rfl ?_
  by_cases c1 : a1 = (0 : Int32)
  · have h := itt c1 h
    refine G_tabIn F (tgt := 64) dX7_count_1 (by rw [c1]; decide) (by rw [c1]; decide) (by rw [c1]; rfl) (by decide) ?_
    refine G_aload_n F dX7_count_64 rfl ?_
    obtain ⟨v2, e_v2, h⟩ := bnd h
    refine G_getR F okX7 (f := 0) (by decide) q1224 rfl dX7_count_65 e_v2 ?_
    refine G_bipush F (v := (24 : Int32)) dX7_count_68 (by decide) ?_
    obtain ⟨v3, e_v3, h⟩ := bnd h
    refine G_iald F dX7_count_70 e_v3 ?_
    cases h
    exact G_iret F rfl (Nat.le_refl _) (Nat.le_refl _) rfl dX7_count_71
  have h := itf c1 h
  by_cases c4 : a1 = (1 : Int32)
  · have h := itt c4 h
    refine G_tabIn F (tgt := 72) dX7_count_1 (by rw [c4]; decide) (by rw [c4]; decide) (by rw [c4]; rfl) (by decide) ?_
    refine G_aload_n F dX7_count_72 rfl ?_
    obtain ⟨v5, e_v5, h⟩ := bnd h
    obtain ⟨hc_v5, e_v5⟩ := hp_on_of e_v5
    refine G_callVv F (As := []) (st := []) (metX7_toldSet X e_v5) hc_v5 rfl rfl (lw_V q1810 q1812 qs98 q109 q1813) hdfX7_toldSet ⟨by omega, by decide⟩ rfl (Nat.le_of_ble_eq_true rfl) ⟨by omega, by omega⟩ dX7_count_73 ?_
    cases h
    exact G_iret F rfl (Nat.le_refl _) (Nat.le_refl _) rfl dX7_count_76
  have h := itf c4 h
  by_cases c6 : a1 = (2 : Int32)
  · have h := itt c6 h
    refine G_tabIn F (tgt := 77) dX7_count_1 (by rw [c6]; decide) (by rw [c6]; decide) (by rw [c6]; rfl) (by decide) ?_
    refine G_aload_n F dX7_count_77 rfl ?_
    obtain ⟨v7, e_v7, h⟩ := bnd h
    refine G_getI F okX7 (f := 14) (by decide) q1238 rfl dX7_count_78 e_v7 ?_
    cases h
    exact G_iret F rfl (Nat.le_refl _) (Nat.le_refl _) rfl dX7_count_81
  have h := itf c6 h
  by_cases c8 : a1 = (3 : Int32)
  · have h := itt c8 h
    refine G_tabIn F (tgt := 82) dX7_count_1 (by rw [c8]; decide) (by rw [c8]; decide) (by rw [c8]; rfl) (by decide) ?_
    refine G_aload_n F dX7_count_82 rfl ?_
    obtain ⟨v9, e_v9, h⟩ := bnd h
    obtain ⟨hc_v9, e_v9⟩ := hp_on_of e_v9
    refine G_callVv F (As := []) (st := []) (metX7_running X e_v9) hc_v9 rfl rfl (lw_V q1814 q1816 qs99 q109 q1817) hdfX7_running ⟨by omega, by decide⟩ rfl (Nat.le_of_ble_eq_true rfl) ⟨by omega, by omega⟩ dX7_count_83 ?_
    cases h
    exact G_iret F rfl (Nat.le_refl _) (Nat.le_refl _) rfl dX7_count_86
  have h := itf c8 h
  by_cases c10 : a1 = (4 : Int32)
  · have h := itt c10 h
    refine G_tabIn F (tgt := 87) dX7_count_1 (by rw [c10]; decide) (by rw [c10]; decide) (by rw [c10]; rfl) (by decide) ?_
    refine G_aload_n F dX7_count_87 rfl ?_
    obtain ⟨v11, e_v11, h⟩ := bnd h
    refine G_getI F okX7 (f := 13) (by decide) q1237 rfl dX7_count_88 e_v11 ?_
    cases h
    exact G_iret F rfl (Nat.le_refl _) (Nat.le_refl _) rfl dX7_count_91
  have h := itf c10 h
  by_cases c12 : a1 = (5 : Int32)
  · have h := itt c12 h
    refine G_tabIn F (tgt := 92) dX7_count_1 (by rw [c12]; decide) (by rw [c12]; decide) (by rw [c12]; rfl) (by decide) ?_
    refine G_aload_n F dX7_count_92 rfl ?_
    obtain ⟨v13, e_v13, h⟩ := bnd h
    refine G_getI F okX7 (f := 26) (by decide) q1250 rfl dX7_count_93 e_v13 ?_
    cases h
    exact G_iret F rfl (Nat.le_refl _) (Nat.le_refl _) rfl dX7_count_96
  have h := itf c12 h
  by_cases c14 : a1 = (6 : Int32)
  · have h := itt c14 h
    refine G_tabIn F (tgt := 97) dX7_count_1 (by rw [c14]; decide) (by rw [c14]; decide) (by rw [c14]; rfl) (by decide) ?_
    refine G_aload_n F dX7_count_97 rfl ?_
    obtain ⟨v15, e_v15, h⟩ := bnd h
    refine G_getI F okX7 (f := 17) (by decide) q1241 rfl dX7_count_98 e_v15 ?_
    cases h
    exact G_iret F rfl (Nat.le_refl _) (Nat.le_refl _) rfl dX7_count_101
  have h := itf c14 h
  by_cases c16 : a1 = (7 : Int32)
  · have h := itt c16 h
    refine G_tabIn F (tgt := 102) dX7_count_1 (by rw [c16]; decide) (by rw [c16]; decide) (by rw [c16]; rfl) (by decide) ?_
    refine G_aload_n F dX7_count_102 rfl ?_
    obtain ⟨v17, e_v17, h⟩ := bnd h
    refine G_getR F okX7 (f := 0) (by decide) q1224 rfl dX7_count_103 e_v17 ?_
    refine G_bipush F (v := (25 : Int32)) dX7_count_106 (by decide) ?_
    obtain ⟨v18, e_v18, h⟩ := bnd h
    refine G_iald F dX7_count_108 e_v18 ?_
    cases h
    exact G_iret F rfl (Nat.le_refl _) (Nat.le_refl _) rfl dX7_count_109
  have h := itf c16 h
  by_cases c19 : a1 = (8 : Int32)
  · have h := itt c19 h
    refine G_tabIn F (tgt := 110) dX7_count_1 (by rw [c19]; decide) (by rw [c19]; decide) (by rw [c19]; rfl) (by decide) ?_
    refine G_aload_n F dX7_count_110 rfl ?_
    refine G_iconst F (v := (0 : Int32)) dX7_count_111 (by decide) ?_
    obtain ⟨v20, e_v20, h⟩ := bnd h
    obtain ⟨hc_v20, e_v20⟩ := hp_on_of e_v20
    refine G_callVv F (As := [.inl (0 : Int32)]) (st := []) (metX7_allOf X e_v20) hc_v20 rfl rfl (lw_V q1818 q1820 qs100 q109 q1821) hdfX7_allOf ⟨by omega, by decide⟩ rfl (Nat.le_of_ble_eq_true rfl) ⟨by omega, by omega⟩ dX7_count_112 ?_
    cases h
    exact G_iret F rfl (Nat.le_refl _) (Nat.le_refl _) rfl dX7_count_115
  have h := itf c19 h
  by_cases c21 : a1 = (9 : Int32)
  · have h := itt c21 h
    refine G_tabIn F (tgt := 116) dX7_count_1 (by rw [c21]; decide) (by rw [c21]; decide) (by rw [c21]; rfl) (by decide) ?_
    refine G_aload_n F dX7_count_116 rfl ?_
    refine G_bipush F (v := (12 : Int32)) dX7_count_117 (by decide) ?_
    obtain ⟨v22, e_v22, h⟩ := bnd h
    obtain ⟨hc_v22, e_v22⟩ := hp_on_of e_v22
    refine G_callVv F (As := [.inl (12 : Int32)]) (st := []) (metX7_allOf X e_v22) hc_v22 rfl rfl (lw_V q1818 q1820 qs100 q109 q1821) hdfX7_allOf ⟨by omega, by decide⟩ rfl (Nat.le_of_ble_eq_true rfl) ⟨by omega, by omega⟩ dX7_count_119 ?_
    cases h
    exact G_iret F rfl (Nat.le_refl _) (Nat.le_refl _) rfl dX7_count_122
  have h := itf c21 h
  by_cases c23 : a1 = (10 : Int32)
  · have h := itt c23 h
    refine G_tabIn F (tgt := 123) dX7_count_1 (by rw [c23]; decide) (by rw [c23]; decide) (by rw [c23]; rfl) (by decide) ?_
    refine G_aload_n F dX7_count_123 rfl ?_
    obtain ⟨v24, e_v24, h⟩ := bnd h
    refine G_getI F okX7 (f := 15) (by decide) q1239 rfl dX7_count_124 e_v24 ?_
    cases h
    exact G_iret F rfl (Nat.le_refl _) (Nat.le_refl _) rfl dX7_count_127
  have h := itf c23 h
  by_cases c25 : a1 = (11 : Int32)
  · have h := itt c25 h
    refine G_tabIn F (tgt := 128) dX7_count_1 (by rw [c25]; decide) (by rw [c25]; decide) (by rw [c25]; rfl) (by decide) ?_
    refine G_aload_n F dX7_count_128 rfl ?_
    obtain ⟨v26, e_v26, h⟩ := bnd h
    refine G_getI F okX7 (f := 15) (by decide) q1239 rfl dX7_count_129 e_v26 ?_
    refine G_if_ne F (tgt := 140) dX7_count_132 (by decide) (fun c27 => ?_) (fun c27 => ?_)
    · have h := itf c27 h
      refine G_aload_n F dX7_count_140 rfl ?_
      obtain ⟨v28, e_v28, h⟩ := bnd h
      refine G_getR F okX7 (f := 8) (by decide) q1232 rfl dX7_count_141 e_v28 ?_
      refine G_aload_n F dX7_count_144 rfl ?_
      obtain ⟨v29, e_v29, h⟩ := bnd h
      refine G_getR F okX7 (f := 10) (by decide) q1234 rfl dX7_count_145 e_v29 ?_
      refine G_aload_n F dX7_count_148 rfl ?_
      obtain ⟨v30, e_v30, h⟩ := bnd h
      refine G_getI F okX7 (f := 15) (by decide) q1239 rfl dX7_count_149 e_v30 ?_
      refine G_iconst F (v := (1 : Int32)) dX7_count_152 (by decide) ?_
      refine G_isub F dX7_count_153 ?_
      obtain ⟨v31, e_v31, h⟩ := bnd h
      refine G_iald F dX7_count_154 e_v31 ?_
      obtain ⟨v32, e_v32, h⟩ := bnd h
      refine G_iald F dX7_count_155 e_v32 ?_
      cases h
      exact G_iret F rfl (Nat.le_refl _) (Nat.le_refl _) rfl dX7_count_156
    · have h := itt c27 h
      refine G_bipush F (v := (-2 : Int32)) dX7_count_135 (by decide) ?_
      refine G_goto F (tgt := 156) dX7_count_137 (by decide) ?_
      cases h
      exact G_iret F rfl (Nat.le_refl _) (Nat.le_refl _) rfl dX7_count_156
  have h := itf c25 h
  refine G_tabDef F (tgt := 157) dX7_count_1 [(0 : Int32), (1 : Int32), (2 : Int32), (3 : Int32), (4 : Int32), (5 : Int32), (6 : Int32), (7 : Int32), (8 : Int32), (9 : Int32), (10 : Int32), (11 : Int32)] (by decide) (by decide) (List.forall_mem_cons.mpr ⟨c1, List.forall_mem_cons.mpr ⟨c4, List.forall_mem_cons.mpr ⟨c6, List.forall_mem_cons.mpr ⟨c8, List.forall_mem_cons.mpr ⟨c10, List.forall_mem_cons.mpr ⟨c12, List.forall_mem_cons.mpr ⟨c14, List.forall_mem_cons.mpr ⟨c16, List.forall_mem_cons.mpr ⟨c19, List.forall_mem_cons.mpr ⟨c21, List.forall_mem_cons.mpr ⟨c23, List.forall_mem_cons.mpr ⟨c25, fa_nil⟩⟩⟩⟩⟩⟩⟩⟩⟩⟩⟩⟩) (by decide) ?_
  refine G_iconst F (v := (-1 : Int32)) dX7_count_157 (by decide) ?_
  cases h
  exact G_iret F rfl (Nat.le_refl _) (Nat.le_refl _) rfl dX7_count_158
