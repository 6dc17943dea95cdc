set_option maxRecDepth 100000
set_option linter.unusedVariables false
theorem metX7_orders (X : Gx) {m : Hp} {nx : Nat} {a0 : Option Nat} {a1 : Int32} {rv : Int32} {m_ : Hp} (h : fX7_orders m a0 a1 = some (rv, m_)) : Con X (5) yX7_orders cX7_orders 4 ((Option.some FieldType.int)) [.inr a0, .inl a1] m nx (some (.inl rv)) m_ 0 0 := by
  refine Con.of (own := RX7) (nm := "orders") (L := [some (.inr a0), some (.inl a1), none, none]) (by decide +kernel) rfl rfl (Nat.le_of_ble_eq_true rfl) (ent_of 2 rfl) ?_
  intro cx F
  refine G_iload_n F dX7_orders_0 rfl ?_
  refine G_iconst F (v := (1 : Int32)) dX7_orders_1 (by decide) ?_
  refine G_bipush F (v := (120 : Int32)) dX7_orders_2 (by decide) ?_
  obtain ⟨v1, e_v1, h⟩ := bnd h
  refine G_callSv F (As := [.inl a1, .inl (1 : Int32), .inl (120 : Int32)]) (st := []) (metX7_in X e_v1) (lw_S q1427 q1428 q109 q1429) hdfX7_in ⟨by omega, by decide⟩ rfl (Nat.le_of_ble_eq_true rfl) ⟨by omega, by omega⟩ dX7_orders_4 ?_
  refine G_if_eq F (tgt := 18) dX7_orders_7 (by decide) (fun c2 => ?_) (fun c2 => ?_)
  · have h := itt c2 h
    refine G_iconst F (v := (-1 : Int32)) dX7_orders_18 (by decide) ?_
    cases h
    exact G_iret F rfl (Nat.le_refl _) (Nat.le_refl _) rfl dX7_orders_19
  · have h := itf c2 h
    refine G_iload_n F dX7_orders_10 rfl ?_
    refine G_aload_n F dX7_orders_11 rfl ?_
    obtain ⟨v3, e_v3, h⟩ := bnd h
    refine G_getI F okX7 (f := 17) (by decide) q1241 rfl dX7_orders_12 e_v3 ?_
    refine G_icmp_le F (tgt := 20) dX7_orders_15 (by decide) (fun c4 => ?_) (fun c4 => ?_)
    · have h := itt c4 h
      refine G_aload_n F dX7_orders_20 rfl ?_
      refine G_iload_n F dX7_orders_21 rfl ?_
      obtain ⟨m5, e_m5, h⟩ := bnd h
      obtain ⟨hc_m5, e_m5⟩ := hp_on_of e_m5
      refine G_callV0 F (As := [.inl a1]) (st := []) (metX7_beginsText X e_m5) hc_m5 rfl rfl (lw_V q1452 q1454 qs44 q109 q1455) hdfX7_beginsText ⟨by omega, by decide⟩ rfl (Nat.le_of_ble_eq_true rfl) ⟨by omega, by omega⟩ dX7_orders_22 ?_
      refine G_aload_n F dX7_orders_25 rfl ?_
      refine G_iconst F (v := (0 : Int32)) dX7_orders_26 (by decide) ?_
      obtain ⟨m6, e_m6, h⟩ := bnd h
      refine G_putV F okX7 (f := 49) (by decide) q1273 rfl rfl dX7_orders_27 (vfit_int _) e_m6 ?_
      refine G_iconst F (v := (0 : Int32)) dX7_orders_30 (by decide) ?_
      refine G_istore_n F (L2 := [some (.inr a0), some (.inl a1), some (.inl (0 : Int32)), none]) dX7_orders_31 (by decide) rfl ?_
      obtain ⟨r7, hr7, h⟩ := bnd h
      have KE7 : ∀ (m17 : Hp), m17 = r7 → G X cx 4 (Qm X cx (some (.inl rv)) m_ nx 0 0) (0) (0) m17 (nx) [some (.inr a0), none, none, none] [] 68 := by
        intro m17 hq
        subst hq
        try dsimp only at h
        refine G_aload_n F dX7_orders_68 rfl ?_
        obtain ⟨⟨v18, m19⟩, e_v18, h⟩ := bnd h
        obtain ⟨hc_v18, e_v18⟩ := hp_on_of e_v18
        refine G_callVv F (As := []) (st := []) (metX7_readsOrder X e_v18) hc_v18 rfl rfl (lw_V q1566 q1568 qs68 q109 q1569) hdfX7_readsOrder ⟨by omega, by decide⟩ rfl (Nat.le_of_ble_eq_true rfl) ⟨by omega, by omega⟩ dX7_orders_69 ?_
        refine G_istore_n F (L2 := [some (.inr a0), none, some (.inl v18), none]) dX7_orders_72 (by decide) rfl ?_
        obtain ⟨r20, hr20, h⟩ := bnd h
        have KE20 : ∀ (v31 : Int32) (m32 : Hp), (v31, m32) = r20 → G X cx 4 (Qm X cx (some (.inl rv)) m_ nx 0 0) (0) (0) m32 (nx) [some (.inr a0), none, some (.inl v31), none] [] 113 := by
          intro v31 m32 hq
          subst hq
          try dsimp only at h
          refine G_aload_n F dX7_orders_113 rfl ?_
          refine G_iconst F (v := (0 : Int32)) dX7_orders_114 (by decide) ?_
          obtain ⟨m33, e_m33, h⟩ := bnd h
          refine G_putV F okX7 (f := 17) (by decide) q1241 rfl rfl dX7_orders_115 (vfit_int _) e_m33 ?_
          refine G_iload_n F dX7_orders_118 rfl ?_
          refine G_if_eq F (tgt := 127) dX7_orders_119 (by decide) (fun c34 => ?_) (fun c34 => ?_)
          · have h := itt c34 h
            refine G_iconst F (v := (0 : Int32)) dX7_orders_127 (by decide) ?_
            refine G_istore_n F (L2 := [some (.inr a0), none, some (.inl v31), some (.inl (0 : Int32))]) dX7_orders_128 (by decide) rfl ?_
            obtain ⟨r35, hr35, h⟩ := bnd h
            have KE35 : ∀ (m45 : Hp), m45 = r35 → G X cx 4 (Qm X cx (some (.inl rv)) m_ nx 0 0) (0) (0) m45 (nx) [some (.inr a0), none, none, none] [] 165 := by
              intro m45 hq
              subst hq
              try dsimp only at h
              refine G_aload_n F dX7_orders_165 rfl ?_
              obtain ⟨v46, e_v46, h⟩ := bnd h
              refine G_getI F okX7 (f := 20) (by decide) q1244 rfl dX7_orders_166 e_v46 ?_
              cases h
              exact G_iret F rfl (Nat.le_refl _) (Nat.le_refl _) rfl dX7_orders_169
            have KB35 : ∀ s o35, fX7_orders_L129 a0 s = some o35 → (∀ s', o35 = Sum.inl s' → (fun (s : (Int32 × Hp)) => match s with | (s3_35, m35) => G X cx 4 (Qm X cx (some (.inl rv)) m_ nx 0 0) (0) (0) m35 (nx) [some (.inr a0), none, none, some (.inl s3_35)] [] 129) s') → (∀ q, o35 = Sum.inr q → q = r35) → (fun (s : (Int32 × Hp)) => match s with | (s3_35, m35) => G X cx 4 (Qm X cx (some (.inl rv)) m_ nx 0 0) (0) (0) m35 (nx) [some (.inr a0), none, none, some (.inl s3_35)] [] 129) s := by
              intro s o35 h hP35 hE35
              obtain ⟨s3_35, m35⟩ := s
              try dsimp only at hP35 hE35 ⊢
              refine G_iload_n F dX7_orders_129 rfl ?_
              refine G_bipush F (v := (48 : Int32)) dX7_orders_130 (by decide) ?_
              refine G_icmp_ge F (tgt := 165) dX7_orders_132 (by decide) (fun c36 => ?_) (fun c36 => ?_)
              · have h := itt c36 h
                cases h
                exact G_sub F (L2 := [some (.inr a0), none, none, none]) ⟨rfl, trivial⟩ (KE35 _ (hE35 _ rfl))
              · have h := itf c36 h
                refine G_aload_n F dX7_orders_135 rfl ?_
                obtain ⟨v37, e_v37, h⟩ := bnd h
                refine G_getR F okX7 (f := 9) (by decide) q1233 rfl dX7_orders_136 e_v37 ?_
                refine G_iload_n F dX7_orders_139 rfl ?_
                refine G_aload_n F dX7_orders_140 rfl ?_
                obtain ⟨v38, e_v38, h⟩ := bnd h
                refine G_getR F okX7 (f := 47) (by decide) q1271 rfl dX7_orders_141 e_v38 ?_
                refine G_iload_n F dX7_orders_144 rfl ?_
                obtain ⟨v39, e_v39, h⟩ := bnd h
                refine G_iald F dX7_orders_145 e_v39 ?_
                obtain ⟨m40, e_m40, h⟩ := bnd h
                refine G_iast F dX7_orders_146 e_m40 ?_
                refine G_aload_n F dX7_orders_147 rfl ?_
                obtain ⟨v41, e_v41, h⟩ := bnd h
                refine G_getR F okX7 (f := 12) (by decide) q1236 rfl dX7_orders_148 e_v41 ?_
                refine G_iload_n F dX7_orders_151 rfl ?_
                refine G_aload_n F dX7_orders_152 rfl ?_
                obtain ⟨v42, e_v42, h⟩ := bnd h
                refine G_getR F okX7 (f := 48) (by decide) q1272 rfl dX7_orders_153 e_v42 ?_
                refine G_iload_n F dX7_orders_156 rfl ?_
                obtain ⟨v43, e_v43, h⟩ := bnd h
                refine G_zald F dX7_orders_157 e_v43 ?_
                obtain ⟨m44, e_m44, h⟩ := bnd h
                refine G_zast F dX7_orders_158 e_m44 ?_
                refine G_iinc F (v := (s3_35 + (1 : Int32))) (L2 := [some (.inr a0), none, none, some (.inl (s3_35 + (1 : Int32)))]) dX7_orders_159 (by decide) rfl rfl rfl ?_
                refine G_goto F (tgt := 129) dX7_orders_162 (by decide) ?_
                cases h
                exact G_sub F (L2 := [some (.inr a0), none, none, some (.inl (s3_35 + (1 : Int32)))]) ⟨rfl, ⟨rfl, trivial⟩⟩ (hP35 _ rfl)
            have hI := iter_ok (fun (s : (Int32 × Hp)) => match s with | (s3_35, m35) => G X cx 4 (Qm X cx (some (.inl rv)) m_ nx 0 0) (0) (0) m35 (nx) [some (.inr a0), none, none, some (.inl s3_35)] [] 129) (fun q => q = r35) KB35 _ _ _ hr35 rfl
            exact G_sub F (L2 := [some (.inr a0), none, none, some (.inl (0 : Int32))]) ⟨rfl, ⟨rfl, trivial⟩⟩ hI
          · have h := itf c34 h
            refine G_aload_n F dX7_orders_122 rfl ?_
            obtain ⟨v47, e_v47, h⟩ := bnd h
            refine G_getI F okX7 (f := 49) (by decide) q1273 rfl dX7_orders_123 e_v47 ?_
            cases h
            exact G_iret F rfl (Nat.le_refl _) (Nat.le_refl _) rfl dX7_orders_126
        have KB20 : ∀ s o20, fX7_orders_L73 a0 s = some o20 → (∀ s', o20 = Sum.inl s' → (fun (s : (Int32 × Hp)) => match s with | (s2_20, m20) => G X cx 4 (Qm X cx (some (.inl rv)) m_ nx 0 0) (0) (0) m20 (nx) [some (.inr a0), none, some (.inl s2_20), none] [] 73) s') → (∀ q, o20 = Sum.inr q → q = r20) → (fun (s : (Int32 × Hp)) => match s with | (s2_20, m20) => G X cx 4 (Qm X cx (some (.inl rv)) m_ nx 0 0) (0) (0) m20 (nx) [some (.inr a0), none, some (.inl s2_20), none] [] 73) s := by
          intro s o20 h hP20 hE20
          obtain ⟨s2_20, m20⟩ := s
          try dsimp only at hP20 hE20 ⊢
          refine G_iload_n F dX7_orders_73 rfl ?_
          refine G_if_eq F (tgt := 113) dX7_orders_74 (by decide) (fun c21 => ?_) (fun c21 => ?_)
          · have h := itt c21 h
            cases h
            exact G_sub F (L2 := [some (.inr a0), none, some (.inl s2_20), none]) ⟨rfl, ⟨rfl, trivial⟩⟩ (KE20 _ _ (hE20 _ rfl))
          · have h := itf c21 h
            refine G_aload_n F dX7_orders_77 rfl ?_
            obtain ⟨v22, e_v22, h⟩ := bnd h
            refine G_getI F okX7 (f := 18) (by decide) q1242 rfl dX7_orders_78 e_v22 ?_
            refine G_aload_n F dX7_orders_81 rfl ?_
            obtain ⟨v23, e_v23, h⟩ := bnd h
            refine G_getI F okX7 (f := 19) (by decide) q1243 rfl dX7_orders_82 e_v23 ?_
            refine G_icmp_ge F (tgt := 113) dX7_orders_85 (by decide) (fun c24 => ?_) (fun c24 => ?_)
            · have h := itt c24 h
              cases h
              exact G_sub F (L2 := [some (.inr a0), none, some (.inl s2_20), none]) ⟨rfl, ⟨rfl, trivial⟩⟩ (KE20 _ _ (hE20 _ rfl))
            · have h := itf c24 h
              refine G_aload_n F dX7_orders_88 rfl ?_
              refine G_bipush F (v := (59 : Int32)) dX7_orders_89 (by decide) ?_
              obtain ⟨⟨v25, m26⟩, e_v25, h⟩ := bnd h
              obtain ⟨hc_v25, e_v25⟩ := hp_on_of e_v25
              refine G_callVv F (As := [.inl (59 : Int32)]) (st := []) (metX7_takes X e_v25) hc_v25 rfl rfl (lw_V q1531 q1533 qs62 q109 q1534) hdfX7_takes ⟨by omega, by decide⟩ rfl (Nat.le_of_ble_eq_true rfl) ⟨by omega, by omega⟩ dX7_orders_91 ?_
              refine G_if_eq F (tgt := 108) dX7_orders_94 (by decide) (fun c27 => ?_) (fun c27 => ?_)
              · have h := itt c27 h
                refine G_iconst F (v := (0 : Int32)) dX7_orders_108 (by decide) ?_
                refine G_istore_n F (L2 := [some (.inr a0), none, some (.inl (0 : Int32)), none]) dX7_orders_109 (by decide) rfl ?_
                refine G_goto F (tgt := 73) dX7_orders_110 (by decide) ?_
                cases h
                exact G_sub F (L2 := [some (.inr a0), none, some (.inl (0 : Int32)), none]) ⟨rfl, ⟨rfl, trivial⟩⟩ (hP20 _ rfl)
              · have h := itf c27 h
                refine G_aload_n F dX7_orders_97 rfl ?_
                obtain ⟨⟨v28, m29⟩, e_v28, h⟩ := bnd h
                obtain ⟨hc_v28, e_v28⟩ := hp_on_of e_v28
                refine G_callVv F (As := []) (st := []) (metX7_readsOrder X e_v28) hc_v28 rfl rfl (lw_V q1566 q1568 qs68 q109 q1569) hdfX7_readsOrder ⟨by omega, by decide⟩ rfl (Nat.le_of_ble_eq_true rfl) ⟨by omega, by omega⟩ dX7_orders_98 ?_
                refine G_if_eq F (tgt := 108) dX7_orders_101 (by decide) (fun c30 => ?_) (fun c30 => ?_)
                · have h := itt c30 h
                  refine G_iconst F (v := (0 : Int32)) dX7_orders_108 (by decide) ?_
                  refine G_istore_n F (L2 := [some (.inr a0), none, some (.inl (0 : Int32)), none]) dX7_orders_109 (by decide) rfl ?_
                  refine G_goto F (tgt := 73) dX7_orders_110 (by decide) ?_
                  cases h
                  exact G_sub F (L2 := [some (.inr a0), none, some (.inl (0 : Int32)), none]) ⟨rfl, ⟨rfl, trivial⟩⟩ (hP20 _ rfl)
                · have h := itf c30 h
                  refine G_iconst F (v := (1 : Int32)) dX7_orders_104 (by decide) ?_
                  refine G_goto F (tgt := 109) dX7_orders_105 (by decide) ?_
                  refine G_istore_n F (L2 := [some (.inr a0), none, some (.inl (1 : Int32)), none]) dX7_orders_109 (by decide) rfl ?_
                  refine G_goto F (tgt := 73) dX7_orders_110 (by decide) ?_
                  cases h
                  exact G_sub F (L2 := [some (.inr a0), none, some (.inl (1 : Int32)), none]) ⟨rfl, ⟨rfl, trivial⟩⟩ (hP20 _ rfl)
        have hI := iter_ok (fun (s : (Int32 × Hp)) => match s with | (s2_20, m20) => G X cx 4 (Qm X cx (some (.inl rv)) m_ nx 0 0) (0) (0) m20 (nx) [some (.inr a0), none, some (.inl s2_20), none] [] 73) (fun q => q = r20) KB20 _ _ _ hr20 rfl
        exact G_sub F (L2 := [some (.inr a0), none, some (.inl v18), none]) ⟨rfl, ⟨rfl, trivial⟩⟩ hI
      have KB7 : ∀ s o7, fX7_orders_L32 a0 s = some o7 → (∀ s', o7 = Sum.inl s' → (fun (s : (Int32 × Hp)) => match s with | (s2_7, m7) => G X cx 4 (Qm X cx (some (.inl rv)) m_ nx 0 0) (0) (0) m7 (nx) [some (.inr a0), none, some (.inl s2_7), none] [] 32) s') → (∀ q, o7 = Sum.inr q → q = r7) → (fun (s : (Int32 × Hp)) => match s with | (s2_7, m7) => G X cx 4 (Qm X cx (some (.inl rv)) m_ nx 0 0) (0) (0) m7 (nx) [some (.inr a0), none, some (.inl s2_7), none] [] 32) s := by
        intro s o7 h hP7 hE7
        obtain ⟨s2_7, m7⟩ := s
        try dsimp only at hP7 hE7 ⊢
        refine G_iload_n F dX7_orders_32 rfl ?_
        refine G_bipush F (v := (48 : Int32)) dX7_orders_33 (by decide) ?_
        refine G_icmp_ge F (tgt := 68) dX7_orders_35 (by decide) (fun c8 => ?_) (fun c8 => ?_)
        · have h := itt c8 h
          cases h
          exact G_sub F (L2 := [some (.inr a0), none, none, none]) ⟨rfl, trivial⟩ (KE7 _ (hE7 _ rfl))
        · have h := itf c8 h
          refine G_aload_n F dX7_orders_38 rfl ?_
          obtain ⟨v9, e_v9, h⟩ := bnd h
          refine G_getR F okX7 (f := 47) (by decide) q1271 rfl dX7_orders_39 e_v9 ?_
          refine G_iload_n F dX7_orders_42 rfl ?_
          refine G_aload_n F dX7_orders_43 rfl ?_
          obtain ⟨v10, e_v10, h⟩ := bnd h
          refine G_getR F okX7 (f := 9) (by decide) q1233 rfl dX7_orders_44 e_v10 ?_
          refine G_iload_n F dX7_orders_47 rfl ?_
          obtain ⟨v11, e_v11, h⟩ := bnd h
          refine G_iald F dX7_orders_48 e_v11 ?_
          obtain ⟨m12, e_m12, h⟩ := bnd h
          refine G_iast F dX7_orders_49 e_m12 ?_
          refine G_aload_n F dX7_orders_50 rfl ?_
          obtain ⟨v13, e_v13, h⟩ := bnd h
          refine G_getR F okX7 (f := 48) (by decide) q1272 rfl dX7_orders_51 e_v13 ?_
          refine G_iload_n F dX7_orders_54 rfl ?_
          refine G_aload_n F dX7_orders_55 rfl ?_
          obtain ⟨v14, e_v14, h⟩ := bnd h
          refine G_getR F okX7 (f := 12) (by decide) q1236 rfl dX7_orders_56 e_v14 ?_
          refine G_iload_n F dX7_orders_59 rfl ?_
          obtain ⟨v15, e_v15, h⟩ := bnd h
          refine G_zald F dX7_orders_60 e_v15 ?_
          obtain ⟨m16, e_m16, h⟩ := bnd h
          refine G_zast F dX7_orders_61 e_m16 ?_
          refine G_iinc F (v := (s2_7 + (1 : Int32))) (L2 := [some (.inr a0), none, some (.inl (s2_7 + (1 : Int32))), none]) dX7_orders_62 (by decide) rfl rfl rfl ?_
          refine G_goto F (tgt := 32) dX7_orders_65 (by decide) ?_
          cases h
          exact G_sub F (L2 := [some (.inr a0), none, some (.inl (s2_7 + (1 : Int32))), none]) ⟨rfl, ⟨rfl, trivial⟩⟩ (hP7 _ rfl)
      have hI := iter_ok (fun (s : (Int32 × Hp)) => match s with | (s2_7, m7) => G X cx 4 (Qm X cx (some (.inl rv)) m_ nx 0 0) (0) (0) m7 (nx) [some (.inr a0), none, some (.inl s2_7), none] [] 32) (fun q => q = r7) KB7 _ _ _ hr7 rfl
      exact G_sub F (L2 := [some (.inr a0), none, some (.inl (0 : Int32)), none]) ⟨rfl, ⟨rfl, trivial⟩⟩ hI
    · have h := itf c4 h
      refine G_iconst F (v := (-1 : Int32)) dX7_orders_18 (by decide) ?_
      cases h
      exact G_iret F rfl (Nat.le_refl _) (Nat.le_refl _) rfl dX7_orders_19

theorem metX7_waitersAt (X : Gx) {m : Hp} {nx : Nat} {a0 : Option Nat} {a1 : Int32} {rv : Int32} (h : fX7_waitersAt m a0 a1 = some rv) : Con X (1) yX7_waitersAt cX7_waitersAt 4 ((Option.some FieldType.int)) [.inr a0, .inl a1] m nx (some (.inl rv)) m 0 0 := by
  refine Con.of (own := RX7) (nm := "waitersAt") (L := [some (.inr a0), some (.inl a1), none, none]) (by decide +kernel) rfl rfl (Nat.le_of_ble_eq_true rfl) (ent_of 2 rfl) ?_
  intro cx F
  refine G_iconst F (v := (0 : Int32)) dX7_waitersAt_0 (by decide) ?_
  refine G_istore_n F (L2 := [some (.inr a0), some (.inl a1), some (.inl (0 : Int32)), none]) dX7_waitersAt_1 (by decide) rfl ?_
  refine G_iconst F (v := (0 : Int32)) dX7_waitersAt_2 (by decide) ?_
  refine G_istore_n F (L2 := [some (.inr a0), some (.inl a1), some (.inl (0 : Int32)), some (.inl (0 : Int32))]) dX7_waitersAt_3 (by decide) rfl ?_
  obtain ⟨r1, hr1, h⟩ := bnd h
  have KE1 : ∀ (v12 : Int32), v12 = r1 → G X cx 4 (Qm X cx (some (.inl rv)) m nx 0 0) (0) (0) m (nx) [none, none, some (.inl v12), none] [] 49 := by
    intro v12 hq
    subst hq
    try dsimp only at h
    refine G_iload_n F dX7_waitersAt_49 rfl ?_
    cases h
    exact G_iret F rfl (Nat.le_refl _) (Nat.le_refl _) rfl dX7_waitersAt_50
  have KB1 : ∀ s o1, fX7_waitersAt_L4 m a0 a1 s = some o1 → (∀ s', o1 = Sum.inl s' → (fun (s : (Int32 × Int32)) => match s with | (s2_1, s3_1) => G X cx 4 (Qm X cx (some (.inl rv)) m nx 0 0) (0) (0) m (nx) [some (.inr a0), some (.inl a1), some (.inl s2_1), some (.inl s3_1)] [] 4) s') → (∀ q, o1 = Sum.inr q → q = r1) → (fun (s : (Int32 × Int32)) => match s with | (s2_1, s3_1) => G X cx 4 (Qm X cx (some (.inl rv)) m nx 0 0) (0) (0) m (nx) [some (.inr a0), some (.inl a1), some (.inl s2_1), some (.inl s3_1)] [] 4) s := by
    intro s o1 h hP1 hE1
    obtain ⟨s2_1, s3_1⟩ := s
    try dsimp only at hP1 hE1 ⊢
    refine G_iload_n F dX7_waitersAt_4 rfl ?_
    refine G_bipush F (v := (12 : Int32)) dX7_waitersAt_5 (by decide) ?_
    refine G_icmp_ge F (tgt := 49) dX7_waitersAt_7 (by decide) (fun c2 => ?_) (fun c2 => ?_)
    · have h := itt c2 h
      cases h
      exact G_sub F (L2 := [none, none, some (.inl s2_1), none]) ⟨rfl, trivial⟩ (KE1 _ (hE1 _ rfl))
    · have h := itf c2 h
      refine G_aload_n F dX7_waitersAt_10 rfl ?_
      obtain ⟨v3, e_v3, h⟩ := bnd h
      refine G_getR F okX7 (f := 11) (by decide) q1235 rfl dX7_waitersAt_11 e_v3 ?_
      refine G_iload_n F dX7_waitersAt_14 rfl ?_
      obtain ⟨v4, e_v4, h⟩ := bnd h
      refine G_zald F dX7_waitersAt_15 e_v4 ?_
      refine G_if_eq F (tgt := 43) dX7_waitersAt_16 (by decide) (fun c5 => ?_) (fun c5 => ?_)
      · have h := itt c5 h
        refine G_iinc F (v := (s3_1 + (1 : Int32))) (L2 := [some (.inr a0), some (.inl a1), some (.inl s2_1), some (.inl (s3_1 + (1 : Int32)))]) dX7_waitersAt_43 (by decide) rfl rfl rfl ?_
        refine G_goto F (tgt := 4) dX7_waitersAt_46 (by decide) ?_
        cases h
        exact G_sub F (L2 := [some (.inr a0), some (.inl a1), some (.inl s2_1), some (.inl (s3_1 + (1 : Int32)))]) ⟨rfl, ⟨rfl, ⟨rfl, ⟨rfl, trivial⟩⟩⟩⟩ (hP1 _ rfl)
      · have h := itf c5 h
        refine G_aload_n F dX7_waitersAt_19 rfl ?_
        obtain ⟨v6, e_v6, h⟩ := bnd h
        refine G_getR F okX7 (f := 3) (by decide) q1227 rfl dX7_waitersAt_20 e_v6 ?_
        refine G_iload_n F dX7_waitersAt_23 rfl ?_
        obtain ⟨v7, e_v7, h⟩ := bnd h
        refine G_iald F dX7_waitersAt_24 e_v7 ?_
        refine G_iload_n F dX7_waitersAt_25 rfl ?_
        refine G_icmp_ne F (tgt := 43) dX7_waitersAt_26 (by decide) (fun c8 => ?_) (fun c8 => ?_)
        · have h := itf c8 h
          refine G_iinc F (v := (s3_1 + (1 : Int32))) (L2 := [some (.inr a0), some (.inl a1), some (.inl s2_1), some (.inl (s3_1 + (1 : Int32)))]) dX7_waitersAt_43 (by decide) rfl rfl rfl ?_
          refine G_goto F (tgt := 4) dX7_waitersAt_46 (by decide) ?_
          cases h
          exact G_sub F (L2 := [some (.inr a0), some (.inl a1), some (.inl s2_1), some (.inl (s3_1 + (1 : Int32)))]) ⟨rfl, ⟨rfl, ⟨rfl, ⟨rfl, trivial⟩⟩⟩⟩ (hP1 _ rfl)
        · have h := itt c8 h
          refine G_aload_n F dX7_waitersAt_29 rfl ?_
          obtain ⟨v9, e_v9, h⟩ := bnd h
          refine G_getR F okX7 (f := 50) (by decide) q1274 rfl dX7_waitersAt_30 e_v9 ?_
          refine G_iload_n F dX7_waitersAt_33 rfl ?_
          obtain ⟨v10, e_v10, h⟩ := bnd h
          refine G_iald F dX7_waitersAt_34 e_v10 ?_
          refine G_iconst F (v := (-1 : Int32)) dX7_waitersAt_35 (by decide) ?_
          refine G_icmp_ne F (tgt := 43) dX7_waitersAt_36 (by decide) (fun c11 => ?_) (fun c11 => ?_)
          · have h := itf c11 h
            refine G_iinc F (v := (s3_1 + (1 : Int32))) (L2 := [some (.inr a0), some (.inl a1), some (.inl s2_1), some (.inl (s3_1 + (1 : Int32)))]) dX7_waitersAt_43 (by decide) rfl rfl rfl ?_
            refine G_goto F (tgt := 4) dX7_waitersAt_46 (by decide) ?_
            cases h
            exact G_sub F (L2 := [some (.inr a0), some (.inl a1), some (.inl s2_1), some (.inl (s3_1 + (1 : Int32)))]) ⟨rfl, ⟨rfl, ⟨rfl, ⟨rfl, trivial⟩⟩⟩⟩ (hP1 _ rfl)
          · have h := itt c11 h
            refine G_iload_n F dX7_waitersAt_39 rfl ?_
            refine G_iconst F (v := (1 : Int32)) dX7_waitersAt_40 (by decide) ?_
            refine G_iadd F dX7_waitersAt_41 ?_
            refine G_istore_n F (L2 := [some (.inr a0), some (.inl a1), some (.inl (s2_1 + (1 : Int32))), some (.inl s3_1)]) dX7_waitersAt_42 (by decide) rfl ?_
            refine G_iinc F (v := (s3_1 + (1 : Int32))) (L2 := [some (.inr a0), some (.inl a1), some (.inl (s2_1 + (1 : Int32))), some (.inl (s3_1 + (1 : Int32)))]) dX7_waitersAt_43 (by decide) rfl rfl rfl ?_
            refine G_goto F (tgt := 4) dX7_waitersAt_46 (by decide) ?_
            cases h
            exact G_sub F (L2 := [some (.inr a0), some (.inl a1), some (.inl (s2_1 + (1 : Int32))), some (.inl (s3_1 + (1 : Int32)))]) ⟨rfl, ⟨rfl, ⟨rfl, ⟨rfl, trivial⟩⟩⟩⟩ (hP1 _ rfl)
  have hI := iter_ok (fun (s : (Int32 × Int32)) => match s with | (s2_1, s3_1) => G X cx 4 (Qm X cx (some (.inl rv)) m nx 0 0) (0) (0) m (nx) [some (.inr a0), some (.inl a1), some (.inl s2_1), some (.inl s3_1)] [] 4) (fun q => q = r1) KB1 _ _ _ hr1 rfl
  exact G_sub F (L2 := [some (.inr a0), some (.inl a1), some (.inl (0 : Int32)), some (.inl (0 : Int32))]) ⟨rfl, ⟨rfl, ⟨rfl, ⟨rfl, trivial⟩⟩⟩⟩ hI

theorem metX7_feels (X : Gx) {m : Hp} {nx : Nat} {a0 : Option Nat} {a1 : Int32} {a2 : Int32} {a3 : Int32} {m_ : Hp} (h : fX7_feels m a0 a1 a2 a3 = some m_) : Con X (2) yX7_feels cX7_feels 4 ((none : Option FieldType)) [.inr a0, .inl a1, .inl a2, .inl a3] m nx none m_ 0 0 := by
  refine Con.of (own := RX7) (nm := "feels") (L := [some (.inr a0), some (.inl a1), some (.inl a2), some (.inl a3)]) (by decide +kernel) rfl rfl (Nat.le_of_ble_eq_true rfl) (ent_of 0 rfl) ?_
  intro cx F
  refine G_aload_n F dX7_feels_0 rfl ?_
  obtain ⟨v1, e_v1, h⟩ := bnd h
  refine G_getR F okX7 (f := 39) (by decide) q1263 rfl dX7_feels_1 e_v1 ?_
  refine G_iconst F (v := (0 : Int32)) dX7_feels_4 (by decide) ?_
  refine G_iload_n F dX7_feels_5 rfl ?_
  obtain ⟨m2, e_m2, h⟩ := bnd h
  refine G_iast F dX7_feels_6 e_m2 ?_
  refine G_aload_n F dX7_feels_7 rfl ?_
  obtain ⟨v3, e_v3, h⟩ := bnd h
  refine G_getR F okX7 (f := 39) (by decide) q1263 rfl dX7_feels_8 e_v3 ?_
  refine G_iconst F (v := (1 : Int32)) dX7_feels_11 (by decide) ?_
  refine G_aload_n F dX7_feels_12 rfl ?_
  obtain ⟨v4, e_v4, h⟩ := bnd h
  refine G_getR F okX7 (f := 7) (by decide) q1231 rfl dX7_feels_13 e_v4 ?_
  refine G_iload_n F dX7_feels_16 rfl ?_
  refine G_iload_n F dX7_feels_17 rfl ?_
  obtain ⟨v5, e_v5, h⟩ := bnd h
  refine G_callSv F (As := [.inl a1, .inl a2]) (st := [.inr v4, .inl (1 : Int32), .inr v3]) (metX7_at X e_v5) (lw_S q1555 q1556 q109 q1557) hdfX7_at ⟨by omega, by decide⟩ rfl (Nat.le_of_ble_eq_true rfl) ⟨by omega, by omega⟩ dX7_feels_18 ?_
  obtain ⟨v6, e_v6, h⟩ := bnd h
  refine G_iald F dX7_feels_21 e_v6 ?_
  obtain ⟨m7, e_m7, h⟩ := bnd h
  refine G_iast F dX7_feels_22 e_m7 ?_
  refine G_aload_n F dX7_feels_23 rfl ?_
  obtain ⟨v8, e_v8, h⟩ := bnd h
  refine G_getR F okX7 (f := 39) (by decide) q1263 rfl dX7_feels_24 e_v8 ?_
  refine G_iconst F (v := (2 : Int32)) dX7_feels_27 (by decide) ?_
  refine G_iload_n F dX7_feels_28 rfl ?_
  obtain ⟨m9, e_m9, h⟩ := bnd h
  refine G_iast F dX7_feels_29 e_m9 ?_
  refine G_aload_n F dX7_feels_30 rfl ?_
  obtain ⟨v10, e_v10, h⟩ := bnd h
  refine G_getR F okX7 (f := 39) (by decide) q1263 rfl dX7_feels_31 e_v10 ?_
  refine G_iconst F (v := (3 : Int32)) dX7_feels_34 (by decide) ?_
  refine G_aload_n F dX7_feels_35 rfl ?_
  obtain ⟨v11, e_v11, h⟩ := bnd h
  refine G_getR F okX7 (f := 51) (by decide) q1275 rfl dX7_feels_36 e_v11 ?_
  refine G_iload_n F dX7_feels_39 rfl ?_
  obtain ⟨v12, e_v12, h⟩ := bnd h
  refine G_iald F dX7_feels_40 e_v12 ?_
  obtain ⟨m13, e_m13, h⟩ := bnd h
  refine G_iast F dX7_feels_41 e_m13 ?_
  refine G_aload_n F dX7_feels_42 rfl ?_
  obtain ⟨v14, e_v14, h⟩ := bnd h
  refine G_getR F okX7 (f := 39) (by decide) q1263 rfl dX7_feels_43 e_v14 ?_
  refine G_iconst F (v := (4 : Int32)) dX7_feels_46 (by decide) ?_
  refine G_aload_n F dX7_feels_47 rfl ?_
  refine G_aload_n F dX7_feels_48 rfl ?_
  obtain ⟨v15, e_v15, h⟩ := bnd h
  refine G_getR F okX7 (f := 39) (by decide) q1263 rfl dX7_feels_49 e_v15 ?_
  refine G_iconst F (v := (1 : Int32)) dX7_feels_52 (by decide) ?_
  obtain ⟨v16, e_v16, h⟩ := bnd h
  refine G_iald F dX7_feels_53 e_v16 ?_
  obtain ⟨v17, e_v17, h⟩ := bnd h
  obtain ⟨hc_v17, e_v17⟩ := hp_on_of e_v17
  refine G_callVv F (As := [.inl v16]) (st := [.inl (4 : Int32), .inr v14]) (metX7_waitersAt X e_v17) hc_v17 rfl rfl (lw_V q1595 q1597 qs74 q109 q1598) hdfX7_waitersAt ⟨by omega, by decide⟩ rfl (Nat.le_of_ble_eq_true rfl) ⟨by omega, by omega⟩ dX7_feels_54 ?_
  obtain ⟨m18, e_m18, h⟩ := bnd h
  refine G_iast F dX7_feels_57 e_m18 ?_
  refine G_aload_n F dX7_feels_58 rfl ?_
  obtain ⟨v19, e_v19, h⟩ := bnd h
  refine G_getR F okX7 (f := 39) (by decide) q1263 rfl dX7_feels_59 e_v19 ?_
  refine G_iconst F (v := (5 : Int32)) dX7_feels_62 (by decide) ?_
  refine G_iconst F (v := (0 : Int32)) dX7_feels_63 (by decide) ?_
  obtain ⟨m20, e_m20, h⟩ := bnd h
  refine G_iast F dX7_feels_64 e_m20 ?_
  refine G_aload_n F dX7_feels_65 rfl ?_
  obtain ⟨v21, e_v21, h⟩ := bnd h
  refine G_getR F okX7 (f := 39) (by decide) q1263 rfl dX7_feels_66 e_v21 ?_
  refine G_bipush F (v := (6 : Int32)) dX7_feels_69 (by decide) ?_
  refine G_iconst F (v := (0 : Int32)) dX7_feels_71 (by decide) ?_
  obtain ⟨m22, e_m22, h⟩ := bnd h
  refine G_iast F dX7_feels_72 e_m22 ?_
  refine G_aload_n F dX7_feels_73 rfl ?_
  obtain ⟨v23, e_v23, h⟩ := bnd h
  refine G_getR F okX7 (f := 39) (by decide) q1263 rfl dX7_feels_74 e_v23 ?_
  refine G_bipush F (v := (7 : Int32)) dX7_feels_77 (by decide) ?_
  refine G_aload_n F dX7_feels_79 rfl ?_
  obtain ⟨v24, e_v24, h⟩ := bnd h
  refine G_getR F okX7 (f := 0) (by decide) q1224 rfl dX7_feels_80 e_v24 ?_
  refine G_bipush F (v := (24 : Int32)) dX7_feels_83 (by decide) ?_
  obtain ⟨v25, e_v25, h⟩ := bnd h
  refine G_iald F dX7_feels_85 e_v25 ?_
  refine G_bipush F (v := (7 : Int32)) dX7_feels_86 (by decide) ?_
  refine G_irem F (by decide) dX7_feels_88 ?_
  obtain ⟨m26, e_m26, h⟩ := bnd h
  refine G_iast F dX7_feels_89 e_m26 ?_
  refine G_aload_n F dX7_feels_90 rfl ?_
  obtain ⟨v27, e_v27, h⟩ := bnd h
  refine G_getR F okX7 (f := 39) (by decide) q1263 rfl dX7_feels_91 e_v27 ?_
  refine G_bipush F (v := (8 : Int32)) dX7_feels_94 (by decide) ?_
  refine G_iload_n F dX7_feels_96 rfl ?_
  obtain ⟨m28, e_m28, h⟩ := bnd h
  refine G_iast F dX7_feels_97 e_m28 ?_
  cases h
  exact G_vret F rfl (Nat.le_refl _) (Nat.le_refl _) rfl dX7_feels_98

theorem metX7_leavesTrain (X : Gx) {m : Hp} {nx : Nat} {a0 : Option Nat} {a1 : Int32} {a2 : Int32} {m_ : Hp} (h : fX7_leavesTrain m a0 a1 a2 = some m_) : Con X (2) yX7_leavesTrain cX7_leavesTrain 4 ((none : Option FieldType)) [.inr a0, .inl a1, .inl a2] m nx none m_ 0 0 := by
  refine Con.of (own := RX7) (nm := "leavesTrain") (L := [some (.inr a0), some (.inl a1), some (.inl a2), none]) (by decide +kernel) rfl rfl (Nat.le_of_ble_eq_true rfl) (ent_of 1 rfl) ?_
  intro cx F
  refine G_iconst F (v := (0 : Int32)) dX7_leavesTrain_0 (by decide) ?_
  refine G_istore_n F (L2 := [some (.inr a0), some (.inl a1), some (.inl a2), some (.inl (0 : Int32))]) dX7_leavesTrain_1 (by decide) rfl ?_
  obtain ⟨r1, hr1, h⟩ := bnd h
  have KE1 : ∀ (m21 : Hp), m21 = r1 → G X cx 4 (Qm X cx none m_ nx 0 0) (0) (0) m21 (nx) [none, none, none, none] [] 88 := by
    intro m21 hq
    subst hq
    try dsimp only at h
    cases h
    exact G_vret F rfl (Nat.le_refl _) (Nat.le_refl _) rfl dX7_leavesTrain_88
  have KB1 : ∀ s o1, fX7_leavesTrain_L2 a0 a1 a2 s = some o1 → (∀ s', o1 = Sum.inl s' → (fun (s : (Int32 × Hp)) => match s with | (s3_1, m1) => G X cx 4 (Qm X cx none m_ nx 0 0) (0) (0) m1 (nx) [some (.inr a0), some (.inl a1), some (.inl a2), some (.inl s3_1)] [] 2) s') → (∀ q, o1 = Sum.inr q → q = r1) → (fun (s : (Int32 × Hp)) => match s with | (s3_1, m1) => G X cx 4 (Qm X cx none m_ nx 0 0) (0) (0) m1 (nx) [some (.inr a0), some (.inl a1), some (.inl a2), some (.inl s3_1)] [] 2) s := by
    intro s o1 h hP1 hE1
    obtain ⟨s3_1, m1⟩ := s
    try dsimp only at hP1 hE1 ⊢
    refine G_iload_n F dX7_leavesTrain_2 rfl ?_
    refine G_bipush F (v := (12 : Int32)) dX7_leavesTrain_3 (by decide) ?_
    refine G_icmp_ge F (tgt := 88) dX7_leavesTrain_5 (by decide) (fun c2 => ?_) (fun c2 => ?_)
    · have h := itt c2 h
      cases h
      exact G_sub F (L2 := [none, none, none, none]) trivial (KE1 _ (hE1 _ rfl))
    · have h := itf c2 h
      refine G_aload_n F dX7_leavesTrain_8 rfl ?_
      obtain ⟨v3, e_v3, h⟩ := bnd h
      refine G_getR F okX7 (f := 11) (by decide) q1235 rfl dX7_leavesTrain_9 e_v3 ?_
      refine G_iload_n F dX7_leavesTrain_12 rfl ?_
      obtain ⟨v4, e_v4, h⟩ := bnd h
      refine G_zald F dX7_leavesTrain_13 e_v4 ?_
      refine G_if_eq F (tgt := 82) dX7_leavesTrain_14 (by decide) (fun c5 => ?_) (fun c5 => ?_)
      · have h := itt c5 h
        refine G_iinc F (v := (s3_1 + (1 : Int32))) (L2 := [some (.inr a0), some (.inl a1), some (.inl a2), some (.inl (s3_1 + (1 : Int32)))]) dX7_leavesTrain_82 (by decide) rfl rfl rfl ?_
        refine G_goto F (tgt := 2) dX7_leavesTrain_85 (by decide) ?_
        cases h
        exact G_sub F (L2 := [some (.inr a0), some (.inl a1), some (.inl a2), some (.inl (s3_1 + (1 : Int32)))]) ⟨rfl, ⟨rfl, ⟨rfl, ⟨rfl, trivial⟩⟩⟩⟩ (hP1 _ rfl)
      · have h := itf c5 h
        refine G_aload_n F dX7_leavesTrain_17 rfl ?_
        obtain ⟨v6, e_v6, h⟩ := bnd h
        refine G_getR F okX7 (f := 50) (by decide) q1274 rfl dX7_leavesTrain_18 e_v6 ?_
        refine G_iload_n F dX7_leavesTrain_21 rfl ?_
        obtain ⟨v7, e_v7, h⟩ := bnd h
        refine G_iald F dX7_leavesTrain_22 e_v7 ?_
        refine G_iload_n F dX7_leavesTrain_23 rfl ?_
        refine G_icmp_ne F (tgt := 82) dX7_leavesTrain_24 (by decide) (fun c8 => ?_) (fun c8 => ?_)
        · have h := itf c8 h
          refine G_iinc F (v := (s3_1 + (1 : Int32))) (L2 := [some (.inr a0), some (.inl a1), some (.inl a2), some (.inl (s3_1 + (1 : Int32)))]) dX7_leavesTrain_82 (by decide) rfl rfl rfl ?_
          refine G_goto F (tgt := 2) dX7_leavesTrain_85 (by decide) ?_
          cases h
          exact G_sub F (L2 := [some (.inr a0), some (.inl a1), some (.inl a2), some (.inl (s3_1 + (1 : Int32)))]) ⟨rfl, ⟨rfl, ⟨rfl, ⟨rfl, trivial⟩⟩⟩⟩ (hP1 _ rfl)
        · have h := itt c8 h
          refine G_aload_n F dX7_leavesTrain_27 rfl ?_
          obtain ⟨v9, e_v9, h⟩ := bnd h
          refine G_getR F okX7 (f := 4) (by decide) q1228 rfl dX7_leavesTrain_28 e_v9 ?_
          refine G_iload_n F dX7_leavesTrain_31 rfl ?_
          obtain ⟨v10, e_v10, h⟩ := bnd h
          refine G_iald F dX7_leavesTrain_32 e_v10 ?_
          refine G_iload_n F dX7_leavesTrain_33 rfl ?_
          refine G_icmp_eq F (tgt := 40) dX7_leavesTrain_34 (by decide) (fun c11 => ?_) (fun c11 => ?_)
          · have h := itt c11 h
            refine G_aload_n F dX7_leavesTrain_40 rfl ?_
            obtain ⟨v12, e_v12, h⟩ := bnd h
            refine G_getR F okX7 (f := 50) (by decide) q1274 rfl dX7_leavesTrain_41 e_v12 ?_
            refine G_iload_n F dX7_leavesTrain_44 rfl ?_
            refine G_bipush F (v := (48 : Int32)) dX7_leavesTrain_45 (by decide) ?_
            obtain ⟨m13, e_m13, h⟩ := bnd h
            refine G_iast F dX7_leavesTrain_47 e_m13 ?_
            refine G_aload_n F dX7_leavesTrain_48 rfl ?_
            obtain ⟨v14, e_v14, h⟩ := bnd h
            refine G_getR F okX7 (f := 0) (by decide) q1224 rfl dX7_leavesTrain_49 e_v14 ?_
            refine G_iconst F (v := (0 : Int32)) dX7_leavesTrain_52 (by decide) ?_
            refine G_iload_n F dX7_leavesTrain_53 rfl ?_
            refine G_iadd F dX7_leavesTrain_54 ?_
            refine G_sipush F (v := (9999 : Int32)) dX7_leavesTrain_55 (by decide) ?_
            refine G_aload_n F dX7_leavesTrain_58 rfl ?_
            obtain ⟨v15, e_v15, h⟩ := bnd h
            refine G_getR F okX7 (f := 0) (by decide) q1224 rfl dX7_leavesTrain_59 e_v15 ?_
            refine G_iconst F (v := (0 : Int32)) dX7_leavesTrain_62 (by decide) ?_
            refine G_iload_n F dX7_leavesTrain_63 rfl ?_
            refine G_iadd F dX7_leavesTrain_64 ?_
            obtain ⟨v16, e_v16, h⟩ := bnd h
            refine G_iald F dX7_leavesTrain_65 e_v16 ?_
            refine G_iconst F (v := (1 : Int32)) dX7_leavesTrain_66 (by decide) ?_
            refine G_iadd F dX7_leavesTrain_67 ?_
            obtain ⟨v17, e_v17, h⟩ := bnd h
            refine G_callSv F (As := [.inl (9999 : Int32), .inl (v16 + (1 : Int32))]) (st := [.inl ((0 : Int32) + s3_1), .inr v14]) (metX7_min X e_v17) (lw_S q1610 q1611 q109 q1612) hdfX7_min ⟨by omega, by decide⟩ rfl (Nat.le_of_ble_eq_true rfl) ⟨by omega, by omega⟩ dX7_leavesTrain_68 ?_
            obtain ⟨m18, e_m18, h⟩ := bnd h
            refine G_iast F dX7_leavesTrain_71 e_m18 ?_
            refine G_aload_n F dX7_leavesTrain_72 rfl ?_
            refine G_aload_n F dX7_leavesTrain_73 rfl ?_
            obtain ⟨v19, e_v19, h⟩ := bnd h
            refine G_getI F okX7 (f := 52) (by decide) q1276 rfl dX7_leavesTrain_74 e_v19 ?_
            refine G_iconst F (v := (1 : Int32)) dX7_leavesTrain_77 (by decide) ?_
            refine G_iadd F dX7_leavesTrain_78 ?_
            obtain ⟨m20, e_m20, h⟩ := bnd h
            refine G_putV F okX7 (f := 52) (by decide) q1276 rfl rfl dX7_leavesTrain_79 (vfit_int _) e_m20 ?_
            refine G_iinc F (v := (s3_1 + (1 : Int32))) (L2 := [some (.inr a0), some (.inl a1), some (.inl a2), some (.inl (s3_1 + (1 : Int32)))]) dX7_leavesTrain_82 (by decide) rfl rfl rfl ?_
            refine G_goto F (tgt := 2) dX7_leavesTrain_85 (by decide) ?_
            cases h
            exact G_sub F (L2 := [some (.inr a0), some (.inl a1), some (.inl a2), some (.inl (s3_1 + (1 : Int32)))]) ⟨rfl, ⟨rfl, ⟨rfl, ⟨rfl, trivial⟩⟩⟩⟩ (hP1 _ rfl)
          · have h := itf c11 h
            refine G_goto F (tgt := 82) dX7_leavesTrain_37 (by decide) ?_
            refine G_iinc F (v := (s3_1 + (1 : Int32))) (L2 := [some (.inr a0), some (.inl a1), some (.inl a2), some (.inl (s3_1 + (1 : Int32)))]) dX7_leavesTrain_82 (by decide) rfl rfl rfl ?_
            refine G_goto F (tgt := 2) dX7_leavesTrain_85 (by decide) ?_
            cases h
            exact G_sub F (L2 := [some (.inr a0), some (.inl a1), some (.inl a2), some (.inl (s3_1 + (1 : Int32)))]) ⟨rfl, ⟨rfl, ⟨rfl, ⟨rfl, trivial⟩⟩⟩⟩ (hP1 _ rfl)
  have hI := iter_ok (fun (s : (Int32 × Hp)) => match s with | (s3_1, m1) => G X cx 4 (Qm X cx none m_ nx 0 0) (0) (0) m1 (nx) [some (.inr a0), some (.inl a1), some (.inl a2), some (.inl s3_1)] [] 2) (fun q => q = r1) KB1 _ _ _ hr1 rfl
  exact G_sub F (L2 := [some (.inr a0), some (.inl a1), some (.inl a2), some (.inl (0 : Int32))]) ⟨rfl, ⟨rfl, ⟨rfl, ⟨rfl, trivial⟩⟩⟩⟩ hI

theorem metX7_mayRide (X : Gx) {m : Hp} {nx : Nat} {a0 : Option Nat} {a1 : Int32} {a2 : Int32} {a3 : Int32} {a4 : Int32} {m_ : Hp} (h : fX7_mayRide m a0 a1 a2 a3 a4 = some m_) : Con X (4) yX7_mayRide cX7_mayRide 6 ((none : Option FieldType)) [.inr a0, .inl a1, .inl a2, .inl a3, .inl a4] m nx none m_ 0 0 := by
  refine Con.of (own := RX7) (nm := "mayRide") (L := [some (.inr a0), some (.inl a1), some (.inl a2), some (.inl a3), some (.inl a4), none]) (by decide +kernel) rfl rfl (Nat.le_of_ble_eq_true rfl) (ent_of 1 rfl) ?_
  intro cx F
  refine G_aload_n F dX7_mayRide_0 rfl ?_
  obtain ⟨v1, e_v1, h⟩ := bnd h
  refine G_getR F okX7 (f := 11) (by decide) q1235 rfl dX7_mayRide_1 e_v1 ?_
  refine G_iload_n F dX7_mayRide_4 rfl ?_
  obtain ⟨v2, e_v2, h⟩ := bnd h
  refine G_zald F dX7_mayRide_5 e_v2 ?_
  obtain ⟨p4, hp4, h⟩ := bnd h
  have K4 : ∀ (v3 : Int32), v3 = p4 → G X cx 6 (Qm X cx none m_ nx 0 0) (0) (0) m (nx) [some (.inr a0), some (.inl a1), some (.inl a2), some (.inl a3), some (.inl a4), none] [.inl v3] 43 := by
    intro v3 hq
    subst hq
    try dsimp only at h
    refine G_istore F (L2 := [some (.inr a0), some (.inl a1), some (.inl a2), some (.inl a3), some (.inl a4), some (.inl v3)]) dX7_mayRide_43 (by decide) rfl ?_
    refine G_iload F dX7_mayRide_45 rfl ?_
    refine G_if_eq F (tgt := 91) dX7_mayRide_47 (by decide) (fun c5 => ?_) (fun c5 => ?_)
    · have h := itt c5 h
      cases h
      exact G_vret F rfl (Nat.le_refl _) (Nat.le_refl _) rfl dX7_mayRide_91
    · have h := itf c5 h
      refine G_aload_n F dX7_mayRide_50 rfl ?_
      obtain ⟨v6, e_v6, h⟩ := bnd h
      refine G_getR F okX7 (f := 5) (by decide) q1229 rfl dX7_mayRide_51 e_v6 ?_
      refine G_iload_n F dX7_mayRide_54 rfl ?_
      obtain ⟨v7, e_v7, h⟩ := bnd h
      refine G_iald F dX7_mayRide_55 e_v7 ?_
      refine G_aload_n F dX7_mayRide_56 rfl ?_
      obtain ⟨v8, e_v8, h⟩ := bnd h
      refine G_getR F okX7 (f := 8) (by decide) q1232 rfl dX7_mayRide_57 e_v8 ?_
      refine G_iload_n F dX7_mayRide_60 rfl ?_
      refine G_iload_n F dX7_mayRide_61 rfl ?_
      obtain ⟨v9, e_v9, h⟩ := bnd h
      refine G_callSv F (As := [.inl a2, .inl a3]) (st := [.inr v8, .inl v7]) (metX7_at X e_v9) (lw_S q1555 q1556 q109 q1557) hdfX7_at ⟨by omega, by decide⟩ rfl (Nat.le_of_ble_eq_true rfl) ⟨by omega, by omega⟩ dX7_mayRide_62 ?_
      obtain ⟨v10, e_v10, h⟩ := bnd h
      refine G_iald F dX7_mayRide_65 e_v10 ?_
      refine G_aload_n F dX7_mayRide_66 rfl ?_
      obtain ⟨v11, e_v11, h⟩ := bnd h
      refine G_getR F okX7 (f := 51) (by decide) q1275 rfl dX7_mayRide_67 e_v11 ?_
      refine G_iload_n F dX7_mayRide_70 rfl ?_
      obtain ⟨v12, e_v12, h⟩ := bnd h
      refine G_iald F dX7_mayRide_71 e_v12 ?_
      refine G_iadd F dX7_mayRide_72 ?_
      refine G_icmp_gt F (tgt := 91) dX7_mayRide_73 (by decide) (fun c13 => ?_) (fun c13 => ?_)
      · have h := itt c13 h
        cases h
        exact G_vret F rfl (Nat.le_refl _) (Nat.le_refl _) rfl dX7_mayRide_91
      · have h := itf c13 h
        refine G_aload_n F dX7_mayRide_76 rfl ?_
        refine G_iload_n F dX7_mayRide_77 rfl ?_
        refine G_aload_n F dX7_mayRide_78 rfl ?_
        obtain ⟨v14, e_v14, h⟩ := bnd h
        refine G_getR F okX7 (f := 4) (by decide) q1228 rfl dX7_mayRide_79 e_v14 ?_
        refine G_iload_n F dX7_mayRide_82 rfl ?_
        obtain ⟨v15, e_v15, h⟩ := bnd h
        refine G_iald F dX7_mayRide_83 e_v15 ?_
        obtain ⟨v16, e_v16, h⟩ := bnd h
        obtain ⟨hc_v16, e_v16⟩ := hp_on_of e_v16
        refine G_callVv F (As := [.inl a2, .inl v15]) (st := []) (metX7_stopAt X e_v16) hc_v16 rfl rfl (lw_V q1624 q1626 qs79 q109 q1627) hdfX7_stopAt ⟨by omega, by decide⟩ rfl (Nat.le_of_ble_eq_true rfl) ⟨by omega, by omega⟩ dX7_mayRide_84 ?_
        refine G_iload_n F dX7_mayRide_87 rfl ?_
        refine G_icmp_gt F (tgt := 92) dX7_mayRide_88 (by decide) (fun c17 => ?_) (fun c17 => ?_)
        · have h := itt c17 h
          refine G_aload_n F dX7_mayRide_92 rfl ?_
          refine G_iload_n F dX7_mayRide_93 rfl ?_
          refine G_iload_n F dX7_mayRide_94 rfl ?_
          refine G_iload F dX7_mayRide_95 rfl ?_
          obtain ⟨m18, e_m18, h⟩ := bnd h
          obtain ⟨hc_m18, e_m18⟩ := hp_on_of e_m18
          refine G_callV0 F (As := [.inl a2, .inl a3, .inl a4]) (st := []) (metX7_feels X e_m18) hc_m18 rfl rfl (lw_V q1591 q1593 qs73 q109 q1594) hdfX7_feels ⟨by omega, by decide⟩ rfl (Nat.le_of_ble_eq_true rfl) ⟨by omega, by omega⟩ dX7_mayRide_97 ?_
          refine G_aload_n F dX7_mayRide_100 rfl ?_
          obtain ⟨v19, e_v19, h⟩ := bnd h
          refine G_getR F okX7 (f := 39) (by decide) q1263 rfl dX7_mayRide_101 e_v19 ?_
          refine G_iconst F (v := (5 : Int32)) dX7_mayRide_104 (by decide) ?_
          refine G_iload_n F dX7_mayRide_105 rfl ?_
          obtain ⟨m20, e_m20, h⟩ := bnd h
          refine G_iast F dX7_mayRide_106 e_m20 ?_
          refine G_aload_n F dX7_mayRide_107 rfl ?_
          obtain ⟨v21, e_v21, h⟩ := bnd h
          refine G_getR F okX7 (f := 39) (by decide) q1263 rfl dX7_mayRide_108 e_v21 ?_
          refine G_bipush F (v := (6 : Int32)) dX7_mayRide_111 (by decide) ?_
          refine G_aload_n F dX7_mayRide_113 rfl ?_
          obtain ⟨v22, e_v22, h⟩ := bnd h
          refine G_getR F okX7 (f := 0) (by decide) q1224 rfl dX7_mayRide_114 e_v22 ?_
          refine G_bipush F (v := (12 : Int32)) dX7_mayRide_117 (by decide) ?_
          refine G_iload_n F dX7_mayRide_119 rfl ?_
          refine G_iadd F dX7_mayRide_120 ?_
          obtain ⟨v23, e_v23, h⟩ := bnd h
          refine G_iald F dX7_mayRide_121 e_v23 ?_
          obtain ⟨m24, e_m24, h⟩ := bnd h
          refine G_iast F dX7_mayRide_122 e_m24 ?_
          refine G_aload_n F dX7_mayRide_123 rfl ?_
          refine G_bipush F (v := (109 : Int32)) dX7_mayRide_124 (by decide) ?_
          obtain ⟨⟨v25, m26⟩, e_v25, h⟩ := bnd h
          obtain ⟨hc_v25, e_v25⟩ := hp_on_of e_v25
          refine G_callVv F (As := [.inl (109 : Int32)]) (st := []) (metX7_holdsAny X e_v25) hc_v25 rfl rfl (lw_V q1628 q1630 qs80 q109 q1631) hdfX7_holdsAny ⟨by omega, by decide⟩ rfl (Nat.le_of_ble_eq_true rfl) ⟨by omega, by omega⟩ dX7_mayRide_126 ?_
          refine G_if_ne F (tgt := 140) dX7_mayRide_129 (by decide) (fun c27 => ?_) (fun c27 => ?_)
          · have h := itf c27 h
            refine G_aload_n F dX7_mayRide_140 rfl ?_
            obtain ⟨v28, e_v28, h⟩ := bnd h
            refine G_getR F okX7 (f := 0) (by decide) q1224 rfl dX7_mayRide_141 e_v28 ?_
            refine G_bipush F (v := (12 : Int32)) dX7_mayRide_144 (by decide) ?_
            refine G_iload_n F dX7_mayRide_146 rfl ?_
            refine G_iadd F dX7_mayRide_147 ?_
            refine G_sipush F (v := (9999 : Int32)) dX7_mayRide_148 (by decide) ?_
            refine G_aload_n F dX7_mayRide_151 rfl ?_
            obtain ⟨v29, e_v29, h⟩ := bnd h
            refine G_getR F okX7 (f := 0) (by decide) q1224 rfl dX7_mayRide_152 e_v29 ?_
            refine G_bipush F (v := (12 : Int32)) dX7_mayRide_155 (by decide) ?_
            refine G_iload_n F dX7_mayRide_157 rfl ?_
            refine G_iadd F dX7_mayRide_158 ?_
            obtain ⟨v30, e_v30, h⟩ := bnd h
            refine G_iald F dX7_mayRide_159 e_v30 ?_
            refine G_iconst F (v := (1 : Int32)) dX7_mayRide_160 (by decide) ?_
            refine G_iadd F dX7_mayRide_161 ?_
            obtain ⟨v31, e_v31, h⟩ := bnd h
            refine G_callSv F (As := [.inl (9999 : Int32), .inl (v30 + (1 : Int32))]) (st := [.inl ((12 : Int32) + a1), .inr v28]) (metX7_min X e_v31) (lw_S q1610 q1611 q109 q1612) hdfX7_min ⟨by omega, by decide⟩ rfl (Nat.le_of_ble_eq_true rfl) ⟨by omega, by omega⟩ dX7_mayRide_162 ?_
            obtain ⟨m32, e_m32, h⟩ := bnd h
            refine G_iast F dX7_mayRide_165 e_m32 ?_
            refine G_aload_n F dX7_mayRide_166 rfl ?_
            refine G_aload_n F dX7_mayRide_167 rfl ?_
            obtain ⟨v33, e_v33, h⟩ := bnd h
            refine G_getI F okX7 (f := 53) (by decide) q1277 rfl dX7_mayRide_168 e_v33 ?_
            refine G_iconst F (v := (1 : Int32)) dX7_mayRide_171 (by decide) ?_
            refine G_iadd F dX7_mayRide_172 ?_
            obtain ⟨m34, e_m34, h⟩ := bnd h
            refine G_putV F okX7 (f := 53) (by decide) q1277 rfl rfl dX7_mayRide_173 (vfit_int _) e_m34 ?_
            cases h
            exact G_vret F rfl (Nat.le_refl _) (Nat.le_refl _) rfl dX7_mayRide_176
          · have h := itt c27 h
            refine G_aload_n F dX7_mayRide_132 rfl ?_
            obtain ⟨v35, e_v35, h⟩ := bnd h
            refine G_getR F okX7 (f := 50) (by decide) q1274 rfl dX7_mayRide_133 e_v35 ?_
            refine G_iload_n F dX7_mayRide_136 rfl ?_
            refine G_iload_n F dX7_mayRide_137 rfl ?_
            obtain ⟨m36, e_m36, h⟩ := bnd h
            refine G_iast F dX7_mayRide_138 e_m36 ?_
            cases h
            exact G_vret F rfl (Nat.le_refl _) (Nat.le_refl _) rfl dX7_mayRide_139
        · have h := itf c17 h
          cases h
          exact G_vret F rfl (Nat.le_refl _) (Nat.le_refl _) rfl dX7_mayRide_91
  have h := hp4
  clear hp4
  refine G_if_eq F (tgt := 42) dX7_mayRide_6 (by decide) (fun c37 => ?_) (fun c37 => ?_)
  · have h := itt c37 h
    refine G_iconst F (v := (0 : Int32)) dX7_mayRide_42 (by decide) ?_
    have hq_ := Option.some.inj h
    exact G_sub F (L2 := [some (.inr a0), some (.inl a1), some (.inl a2), some (.inl a3), some (.inl a4), none]) ⟨rfl, ⟨rfl, ⟨rfl, ⟨rfl, ⟨rfl, trivial⟩⟩⟩⟩⟩ (K4 _ hq_)
  · have h := itf c37 h
    refine G_aload_n F dX7_mayRide_9 rfl ?_
    obtain ⟨v38, e_v38, h⟩ := bnd h
    refine G_getR F okX7 (f := 3) (by decide) q1227 rfl dX7_mayRide_10 e_v38 ?_
    refine G_iload_n F dX7_mayRide_13 rfl ?_
    obtain ⟨v39, e_v39, h⟩ := bnd h
    refine G_iald F dX7_mayRide_14 e_v39 ?_
    refine G_aload_n F dX7_mayRide_15 rfl ?_
    obtain ⟨v40, e_v40, h⟩ := bnd h
    refine G_getR F okX7 (f := 7) (by decide) q1231 rfl dX7_mayRide_16 e_v40 ?_
    refine G_iload_n F dX7_mayRide_19 rfl ?_
    refine G_iload_n F dX7_mayRide_20 rfl ?_
    obtain ⟨v41, e_v41, h⟩ := bnd h
    refine G_callSv F (As := [.inl a2, .inl a3]) (st := [.inr v40, .inl v39]) (metX7_at X e_v41) (lw_S q1555 q1556 q109 q1557) hdfX7_at ⟨by omega, by decide⟩ rfl (Nat.le_of_ble_eq_true rfl) ⟨by omega, by omega⟩ dX7_mayRide_21 ?_
    obtain ⟨v42, e_v42, h⟩ := bnd h
    refine G_iald F dX7_mayRide_24 e_v42 ?_
    refine G_icmp_ne F (tgt := 42) dX7_mayRide_25 (by decide) (fun c43 => ?_) (fun c43 => ?_)
    · have h := itf c43 h
      refine G_iconst F (v := (0 : Int32)) dX7_mayRide_42 (by decide) ?_
      have hq_ := Option.some.inj h
      exact G_sub F (L2 := [some (.inr a0), some (.inl a1), some (.inl a2), some (.inl a3), some (.inl a4), none]) ⟨rfl, ⟨rfl, ⟨rfl, ⟨rfl, ⟨rfl, trivial⟩⟩⟩⟩⟩ (K4 _ hq_)
    · have h := itt c43 h
      refine G_aload_n F dX7_mayRide_28 rfl ?_
      obtain ⟨v44, e_v44, h⟩ := bnd h
      refine G_getR F okX7 (f := 50) (by decide) q1274 rfl dX7_mayRide_29 e_v44 ?_
      refine G_iload_n F dX7_mayRide_32 rfl ?_
      obtain ⟨v45, e_v45, h⟩ := bnd h
      refine G_iald F dX7_mayRide_33 e_v45 ?_
      refine G_iconst F (v := (-1 : Int32)) dX7_mayRide_34 (by decide) ?_
      refine G_icmp_ne F (tgt := 42) dX7_mayRide_35 (by decide) (fun c46 => ?_) (fun c46 => ?_)
      · have h := itf c46 h
        refine G_iconst F (v := (0 : Int32)) dX7_mayRide_42 (by decide) ?_
        have hq_ := Option.some.inj h
        exact G_sub F (L2 := [some (.inr a0), some (.inl a1), some (.inl a2), some (.inl a3), some (.inl a4), none]) ⟨rfl, ⟨rfl, ⟨rfl, ⟨rfl, ⟨rfl, trivial⟩⟩⟩⟩⟩ (K4 _ hq_)
      · have h := itt c46 h
        refine G_iconst F (v := (1 : Int32)) dX7_mayRide_38 (by decide) ?_
        refine G_goto F (tgt := 43) dX7_mayRide_39 (by decide) ?_
        have hq_ := Option.some.inj h
        exact G_sub F (L2 := [some (.inr a0), some (.inl a1), some (.inl a2), some (.inl a3), some (.inl a4), none]) ⟨rfl, ⟨rfl, ⟨rfl, ⟨rfl, ⟨rfl, trivial⟩⟩⟩⟩⟩ (K4 _ hq_)

theorem metX7_stops (X : Gx) {m : Hp} {nx : Nat} {a0 : Option Nat} {a1 : Int32} {a2 : Int32} {m_ : Hp} (h : fX7_stops m a0 a1 a2 = some m_) : Con X (5) yX7_stops cX7_stops 7 ((none : Option FieldType)) [.inr a0, .inl a1, .inl a2] m nx none m_ 0 0 := by
  refine Con.of (own := RX7) (nm := "stops") (L := [some (.inr a0), some (.inl a1), some (.inl a2), none, none, none, none]) (by decide +kernel) rfl rfl (Nat.le_of_ble_eq_true rfl) (ent_of 4 rfl) ?_
  intro cx F
  refine G_aload_n F dX7_stops_0 rfl ?_
  obtain ⟨v1, e_v1, h⟩ := bnd h
  refine G_getR F okX7 (f := 0) (by decide) q1224 rfl dX7_stops_1 e_v1 ?_
  refine G_bipush F (v := (25 : Int32)) dX7_stops_4 (by decide) ?_
  refine G_sipush F (v := (25173 : Int32)) dX7_stops_6 (by decide) ?_
  refine G_aload_n F dX7_stops_9 rfl ?_
  obtain ⟨v2, e_v2, h⟩ := bnd h
  refine G_getR F okX7 (f := 0) (by decide) q1224 rfl dX7_stops_10 e_v2 ?_
  refine G_bipush F (v := (25 : Int32)) dX7_stops_13 (by decide) ?_
  obtain ⟨v3, e_v3, h⟩ := bnd h
  refine G_iald F dX7_stops_15 e_v3 ?_
  refine G_imul F dX7_stops_16 ?_
  refine G_sipush F (v := (13849 : Int32)) dX7_stops_17 (by decide) ?_
  refine G_iadd F dX7_stops_20 ?_
  refine G_ldcw F q1590 dX7_stops_21 ?_
  refine G_irem F (by decide) dX7_stops_24 ?_
  obtain ⟨m4, e_m4, h⟩ := bnd h
  refine G_iast F dX7_stops_25 e_m4 ?_
  refine G_aload_n F dX7_stops_26 rfl ?_
  obtain ⟨v5, e_v5, h⟩ := bnd h
  refine G_getR F okX7 (f := 0) (by decide) q1224 rfl dX7_stops_27 e_v5 ?_
  refine G_bipush F (v := (25 : Int32)) dX7_stops_30 (by decide) ?_
  obtain ⟨v6, e_v6, h⟩ := bnd h
  refine G_iald F dX7_stops_32 e_v6 ?_
  refine G_bipush F (v := (10 : Int32)) dX7_stops_33 (by decide) ?_
  refine G_irem F (by decide) dX7_stops_35 ?_
  refine G_istore_n F (L2 := [some (.inr a0), some (.inl a1), some (.inl a2), some (.inl (jrem v6 (10 : Int32))), none, none, none]) dX7_stops_36 (by decide) rfl ?_
  refine G_aload_n F dX7_stops_37 rfl ?_
  refine G_iload_n F dX7_stops_38 rfl ?_
  refine G_iload_n F dX7_stops_39 rfl ?_
  refine G_iload_n F dX7_stops_40 rfl ?_
  obtain ⟨m7, e_m7, h⟩ := bnd h
  obtain ⟨hc_m7, e_m7⟩ := hp_on_of e_m7
  refine G_callV0 F (As := [.inl a1, .inl a2, .inl (jrem v6 (10 : Int32))]) (st := []) (metX7_feels X e_m7) hc_m7 rfl rfl (lw_V q1591 q1593 qs73 q109 q1594) hdfX7_feels ⟨by omega, by decide⟩ rfl (Nat.le_of_ble_eq_true rfl) ⟨by omega, by omega⟩ dX7_stops_41 ?_
  refine G_aload_n F dX7_stops_44 rfl ?_
  refine G_bipush F (v := (100 : Int32)) dX7_stops_45 (by decide) ?_
  refine G_bipush F (v := (60 : Int32)) dX7_stops_47 (by decide) ?_
  obtain ⟨⟨v8, m9⟩, e_v8, h⟩ := bnd h
  obtain ⟨hc_v8, e_v8⟩ := hp_on_of e_v8
  refine G_callVv F (As := [.inl (100 : Int32), .inl (60 : Int32)]) (st := []) (metX7_byLaw X e_v8) hc_v8 rfl rfl (lw_V q1599 q1601 qs75 q109 q1602) hdfX7_byLaw ⟨by omega, by decide⟩ rfl (Nat.le_of_ble_eq_true rfl) ⟨by omega, by omega⟩ dX7_stops_49 ?_
  refine G_istore F (L2 := [some (.inr a0), some (.inl a1), some (.inl a2), some (.inl (jrem v6 (10 : Int32))), some (.inl v8), none, none]) dX7_stops_52 (by decide) rfl ?_
  refine G_aload_n F dX7_stops_54 rfl ?_
  refine G_bipush F (v := (99 : Int32)) dX7_stops_55 (by decide) ?_
  refine G_bipush F (v := (60 : Int32)) dX7_stops_57 (by decide) ?_
  obtain ⟨⟨v10, m11⟩, e_v10, h⟩ := bnd h
  obtain ⟨hc_v10, e_v10⟩ := hp_on_of e_v10
  refine G_callVv F (As := [.inl (99 : Int32), .inl (60 : Int32)]) (st := []) (metX7_byLaw X e_v10) hc_v10 rfl rfl (lw_V q1599 q1601 qs75 q109 q1602) hdfX7_byLaw ⟨by omega, by decide⟩ rfl (Nat.le_of_ble_eq_true rfl) ⟨by omega, by omega⟩ dX7_stops_59 ?_
  refine G_istore F (L2 := [some (.inr a0), some (.inl a1), some (.inl a2), some (.inl (jrem v6 (10 : Int32))), some (.inl v8), some (.inl v10), none]) dX7_stops_62 (by decide) rfl ?_
  refine G_aload_n F dX7_stops_64 rfl ?_
  obtain ⟨v12, e_v12, h⟩ := bnd h
  refine G_getR F okX7 (f := 51) (by decide) q1275 rfl dX7_stops_65 e_v12 ?_
  refine G_iload_n F dX7_stops_68 rfl ?_
  refine G_iconst F (v := (0 : Int32)) dX7_stops_69 (by decide) ?_
  refine G_sipush F (v := (240 : Int32)) dX7_stops_70 (by decide) ?_
  refine G_aload_n F dX7_stops_73 rfl ?_
  obtain ⟨v13, e_v13, h⟩ := bnd h
  refine G_getR F okX7 (f := 51) (by decide) q1275 rfl dX7_stops_74 e_v13 ?_
  refine G_iload_n F dX7_stops_77 rfl ?_
  obtain ⟨v14, e_v14, h⟩ := bnd h
  refine G_iald F dX7_stops_78 e_v14 ?_
  refine G_iload F dX7_stops_79 rfl ?_
  refine G_iadd F dX7_stops_81 ?_
  refine G_iload F dX7_stops_82 rfl ?_
  refine G_isub F dX7_stops_84 ?_
  obtain ⟨v15, e_v15, h⟩ := bnd h
  refine G_callSv F (As := [.inl (240 : Int32), .inl ((v14 + v8) - v10)]) (st := [.inl (0 : Int32), .inl a1, .inr v12]) (metX7_min X e_v15) (lw_S q1610 q1611 q109 q1612) hdfX7_min ⟨by omega, by decide⟩ rfl (Nat.le_of_ble_eq_true rfl) ⟨by omega, by omega⟩ dX7_stops_85 ?_
  obtain ⟨v16, e_v16, h⟩ := bnd h
  refine G_callSv F (As := [.inl (0 : Int32), .inl v15]) (st := [.inl a1, .inr v12]) (metX7_max X e_v16) (lw_S q1613 q1614 q109 q1615) hdfX7_max ⟨by omega, by decide⟩ rfl (Nat.le_of_ble_eq_true rfl) ⟨by omega, by omega⟩ dX7_stops_88 ?_
  obtain ⟨m17, e_m17, h⟩ := bnd h
  refine G_iast F dX7_stops_91 e_m17 ?_
  refine G_aload_n F dX7_stops_92 rfl ?_
  refine G_aload_n F dX7_stops_93 rfl ?_
  obtain ⟨v18, e_v18, h⟩ := bnd h
  refine G_getI F okX7 (f := 54) (by decide) q1278 rfl dX7_stops_94 e_v18 ?_
  refine G_aload_n F dX7_stops_97 rfl ?_
  obtain ⟨v19, e_v19, h⟩ := bnd h
  refine G_getR F okX7 (f := 51) (by decide) q1275 rfl dX7_stops_98 e_v19 ?_
  refine G_iload_n F dX7_stops_101 rfl ?_
  obtain ⟨v20, e_v20, h⟩ := bnd h
  refine G_iald F dX7_stops_102 e_v20 ?_
  obtain ⟨v21, e_v21, h⟩ := bnd h
  refine G_callSv F (As := [.inl v18, .inl v20]) (st := [.inr a0]) (metX7_max X e_v21) (lw_S q1613 q1614 q109 q1615) hdfX7_max ⟨by omega, by decide⟩ rfl (Nat.le_of_ble_eq_true rfl) ⟨by omega, by omega⟩ dX7_stops_103 ?_
  obtain ⟨m22, e_m22, h⟩ := bnd h
  refine G_putV F okX7 (f := 54) (by decide) q1278 rfl rfl dX7_stops_106 (vfit_int _) e_m22 ?_
  refine G_aload_n F dX7_stops_109 rfl ?_
  refine G_iload_n F dX7_stops_110 rfl ?_
  refine G_aload_n F dX7_stops_111 rfl ?_
  obtain ⟨v23, e_v23, h⟩ := bnd h
  refine G_getR F okX7 (f := 7) (by decide) q1231 rfl dX7_stops_112 e_v23 ?_
  refine G_iload_n F dX7_stops_115 rfl ?_
  refine G_iload_n F dX7_stops_116 rfl ?_
  obtain ⟨v24, e_v24, h⟩ := bnd h
  refine G_callSv F (As := [.inl a1, .inl a2]) (st := [.inr v23, .inl a1, .inr a0]) (metX7_at X e_v24) (lw_S q1555 q1556 q109 q1557) hdfX7_at ⟨by omega, by decide⟩ rfl (Nat.le_of_ble_eq_true rfl) ⟨by omega, by omega⟩ dX7_stops_117 ?_
  obtain ⟨v25, e_v25, h⟩ := bnd h
  refine G_iald F dX7_stops_120 e_v25 ?_
  obtain ⟨m26, e_m26, h⟩ := bnd h
  obtain ⟨hc_m26, e_m26⟩ := hp_on_of e_m26
  refine G_callV0 F (As := [.inl a1, .inl v25]) (st := []) (metX7_leavesTrain X e_m26) hc_m26 rfl rfl (lw_V q1616 q1618 qs77 q109 q1619) hdfX7_leavesTrain ⟨by omega, by decide⟩ rfl (Nat.le_of_ble_eq_true rfl) ⟨by omega, by omega⟩ dX7_stops_121 ?_
  refine G_iconst F (v := (0 : Int32)) dX7_stops_124 (by decide) ?_
  refine G_istore F (L2 := [some (.inr a0), some (.inl a1), some (.inl a2), some (.inl (jrem v6 (10 : Int32))), some (.inl v8), some (.inl v10), some (.inl (0 : Int32))]) dX7_stops_125 (by decide) rfl ?_
  obtain ⟨r27, hr27, h⟩ := bnd h
  have KE27 : ∀ (m33 : Hp), m33 = r27 → G X cx 7 (Qm X cx none m_ nx 0 0) (0) (0) m33 (nx) [none, none, none, none, none, none, none] [] 161 := by
    intro m33 hq
    subst hq
    try dsimp only at h
    cases h
    exact G_vret F rfl (Nat.le_refl _) (Nat.le_refl _) rfl dX7_stops_161
  have KB27 : ∀ s o27, fX7_stops_L127 a0 a1 a2 (jrem v6 (10 : Int32)) s = some o27 → (∀ s', o27 = Sum.inl s' → (fun (s : (Int32 × Hp)) => match s with | (s6_27, m27) => G X cx 7 (Qm X cx none m_ nx 0 0) (0) (0) m27 (nx) [some (.inr a0), some (.inl a1), some (.inl a2), some (.inl (jrem v6 (10 : Int32))), none, none, some (.inl s6_27)] [] 127) s') → (∀ q, o27 = Sum.inr q → q = r27) → (fun (s : (Int32 × Hp)) => match s with | (s6_27, m27) => G X cx 7 (Qm X cx none m_ nx 0 0) (0) (0) m27 (nx) [some (.inr a0), some (.inl a1), some (.inl a2), some (.inl (jrem v6 (10 : Int32))), none, none, some (.inl s6_27)] [] 127) s := by
    intro s o27 h hP27 hE27
    obtain ⟨s6_27, m27⟩ := s
    try dsimp only at hP27 hE27 ⊢
    refine G_iload F dX7_stops_127 rfl ?_
    refine G_bipush F (v := (12 : Int32)) dX7_stops_129 (by decide) ?_
    refine G_icmp_ge F (tgt := 161) dX7_stops_131 (by decide) (fun c28 => ?_) (fun c28 => ?_)
    · have h := itt c28 h
      cases h
      exact G_sub F (L2 := [none, none, none, none, none, none, none]) trivial (KE27 _ (hE27 _ rfl))
    · have h := itf c28 h
      refine G_iload_n F dX7_stops_134 rfl ?_
      refine G_aload_n F dX7_stops_135 rfl ?_
      obtain ⟨v29, e_v29, h⟩ := bnd h
      refine G_getR F okX7 (f := 6) (by decide) q1230 rfl dX7_stops_136 e_v29 ?_
      refine G_iload_n F dX7_stops_139 rfl ?_
      obtain ⟨v30, e_v30, h⟩ := bnd h
      refine G_iald F dX7_stops_140 e_v30 ?_
      refine G_iconst F (v := (1 : Int32)) dX7_stops_141 (by decide) ?_
      refine G_isub F dX7_stops_142 ?_
      refine G_icmp_ge F (tgt := 161) dX7_stops_143 (by decide) (fun c31 => ?_) (fun c31 => ?_)
      · have h := itt c31 h
        cases h
        exact G_sub F (L2 := [none, none, none, none, none, none, none]) trivial (KE27 _ (hE27 _ rfl))
      · have h := itf c31 h
        refine G_aload_n F dX7_stops_146 rfl ?_
        refine G_iload F dX7_stops_147 rfl ?_
        refine G_iload_n F dX7_stops_149 rfl ?_
        refine G_iload_n F dX7_stops_150 rfl ?_
        refine G_iload_n F dX7_stops_151 rfl ?_
        obtain ⟨m32, e_m32, h⟩ := bnd h
        obtain ⟨hc_m32, e_m32⟩ := hp_on_of e_m32
        refine G_callV0 F (As := [.inl s6_27, .inl a1, .inl a2, .inl (jrem v6 (10 : Int32))]) (st := []) (metX7_mayRide X e_m32) hc_m32 rfl rfl (lw_V q1620 q1622 qs78 q109 q1623) hdfX7_mayRide ⟨by omega, by decide⟩ rfl (Nat.le_of_ble_eq_true rfl) ⟨by omega, by omega⟩ dX7_stops_152 ?_
        refine G_iinc F (v := (s6_27 + (1 : Int32))) (L2 := [some (.inr a0), some (.inl a1), some (.inl a2), some (.inl (jrem v6 (10 : Int32))), none, none, some (.inl (s6_27 + (1 : Int32)))]) dX7_stops_155 (by decide) rfl rfl rfl ?_
        refine G_goto F (tgt := 127) dX7_stops_158 (by decide) ?_
        cases h
        exact G_sub F (L2 := [some (.inr a0), some (.inl a1), some (.inl a2), some (.inl (jrem v6 (10 : Int32))), none, none, some (.inl (s6_27 + (1 : Int32)))]) ⟨rfl, ⟨rfl, ⟨rfl, ⟨rfl, ⟨rfl, trivial⟩⟩⟩⟩⟩ (hP27 _ rfl)
  have hI := iter_ok (fun (s : (Int32 × Hp)) => match s with | (s6_27, m27) => G X cx 7 (Qm X cx none m_ nx 0 0) (0) (0) m27 (nx) [some (.inr a0), some (.inl a1), some (.inl a2), some (.inl (jrem v6 (10 : Int32))), none, none, some (.inl s6_27)] [] 127) (fun q => q = r27) KB27 _ _ _ hr27 rfl
  exact G_sub F (L2 := [some (.inr a0), some (.inl a1), some (.inl a2), some (.inl (jrem v6 (10 : Int32))), none, none, some (.inl (0 : Int32))]) ⟨rfl, ⟨rfl, ⟨rfl, ⟨rfl, ⟨rfl, trivial⟩⟩⟩⟩⟩ hI

theorem metX7_dayGoes (X : Gx) {m : Hp} {nx : Nat} {a0 : Option Nat} {m_ : Hp} (h : fX7_dayGoes m a0 = some m_) : Con X (6) yX7_dayGoes cX7_dayGoes 2 ((none : Option FieldType)) [.inr a0] m nx none m_ 0 0 := by
  refine Con.of (own := RX7) (nm := "dayGoes") (L := [some (.inr a0), none]) (by decide +kernel) rfl rfl (Nat.le_of_ble_eq_true rfl) (ent_of 1 rfl) ?_
  intro cx F
  refine G_iconst F (v := (0 : Int32)) dX7_dayGoes_0 (by decide) ?_
  refine G_istore_n F (L2 := [some (.inr a0), some (.inl (0 : Int32))]) dX7_dayGoes_1 (by decide) rfl ?_
  obtain ⟨r1, hr1, h⟩ := bnd h
  have KE1 : ∀ (m5 : Hp), m5 = r1 → G X cx 2 (Qm X cx none m_ nx 0 0) (0) (0) m5 (nx) [some (.inr a0), none] [] 21 := by
    intro m5 hq
    subst hq
    try dsimp only at h
    refine G_iconst F (v := (0 : Int32)) dX7_dayGoes_21 (by decide) ?_
    refine G_istore_n F (L2 := [some (.inr a0), some (.inl (0 : Int32))]) dX7_dayGoes_22 (by decide) rfl ?_
    obtain ⟨r6, hr6, h⟩ := bnd h
    have KE6 : ∀ (m13 : Hp), m13 = r6 → G X cx 2 (Qm X cx none m_ nx 0 0) (0) (0) m13 (nx) [some (.inr a0), none] [] 49 := by
      intro m13 hq
      subst hq
      try dsimp only at h
      refine G_iconst F (v := (0 : Int32)) dX7_dayGoes_49 (by decide) ?_
      refine G_istore_n F (L2 := [some (.inr a0), some (.inl (0 : Int32))]) dX7_dayGoes_50 (by decide) rfl ?_
      obtain ⟨r14, hr14, h⟩ := bnd h
      have KE14 : ∀ (m26 : Hp), m26 = r14 → G X cx 2 (Qm X cx none m_ nx 0 0) (0) (0) m26 (nx) [some (.inr a0), none] [] 103 := by
        intro m26 hq
        subst hq
        try dsimp only at h
        refine G_aload_n F dX7_dayGoes_103 rfl ?_
        obtain ⟨v27, e_v27, h⟩ := bnd h
        refine G_getR F okX7 (f := 0) (by decide) q1224 rfl dX7_dayGoes_104 e_v27 ?_
        refine G_bipush F (v := (24 : Int32)) dX7_dayGoes_107 (by decide) ?_
        refine G_aload_n F dX7_dayGoes_109 rfl ?_
        obtain ⟨v28, e_v28, h⟩ := bnd h
        refine G_getR F okX7 (f := 0) (by decide) q1224 rfl dX7_dayGoes_110 e_v28 ?_
        refine G_bipush F (v := (24 : Int32)) dX7_dayGoes_113 (by decide) ?_
        obtain ⟨v29, e_v29, h⟩ := bnd h
        refine G_iald F dX7_dayGoes_115 e_v29 ?_
        refine G_iconst F (v := (1 : Int32)) dX7_dayGoes_116 (by decide) ?_
        refine G_iadd F dX7_dayGoes_117 ?_
        obtain ⟨m30, e_m30, h⟩ := bnd h
        refine G_iast F dX7_dayGoes_118 e_m30 ?_
        cases h
        exact G_vret F rfl (Nat.le_refl _) (Nat.le_refl _) rfl dX7_dayGoes_119
      have KB14 : ∀ s o14, fX7_dayGoes_L51 a0 s = some o14 → (∀ s', o14 = Sum.inl s' → (fun (s : (Int32 × Hp)) => match s with | (s1_14, m14) => G X cx 2 (Qm X cx none m_ nx 0 0) (0) (0) m14 (nx) [some (.inr a0), some (.inl s1_14)] [] 51) s') → (∀ q, o14 = Sum.inr q → q = r14) → (fun (s : (Int32 × Hp)) => match s with | (s1_14, m14) => G X cx 2 (Qm X cx none m_ nx 0 0) (0) (0) m14 (nx) [some (.inr a0), some (.inl s1_14)] [] 51) s := by
        intro s o14 h hP14 hE14
        obtain ⟨s1_14, m14⟩ := s
        try dsimp only at hP14 hE14 ⊢
        refine G_iload_n F dX7_dayGoes_51 rfl ?_
        refine G_aload_n F dX7_dayGoes_52 rfl ?_
        obtain ⟨v15, e_v15, h⟩ := bnd h
        refine G_getI F okX7 (f := 15) (by decide) q1239 rfl dX7_dayGoes_53 e_v15 ?_
        refine G_icmp_ge F (tgt := 103) dX7_dayGoes_56 (by decide) (fun c16 => ?_) (fun c16 => ?_)
        · have h := itt c16 h
          cases h
          exact G_sub F (L2 := [some (.inr a0), none]) ⟨rfl, trivial⟩ (KE14 _ (hE14 _ rfl))
        · have h := itf c16 h
          refine G_aload_n F dX7_dayGoes_59 rfl ?_
          refine G_aload_n F dX7_dayGoes_60 rfl ?_
          obtain ⟨v17, e_v17, h⟩ := bnd h
          refine G_getR F okX7 (f := 10) (by decide) q1234 rfl dX7_dayGoes_61 e_v17 ?_
          refine G_iload_n F dX7_dayGoes_64 rfl ?_
          obtain ⟨v18, e_v18, h⟩ := bnd h
          refine G_iald F dX7_dayGoes_65 e_v18 ?_
          refine G_bipush F (v := (8 : Int32)) dX7_dayGoes_66 (by decide) ?_
          refine G_idiv F (by decide) dX7_dayGoes_68 ?_
          obtain ⟨v19, e_v19, h⟩ := bnd h
          obtain ⟨hc_v19, e_v19⟩ := hp_on_of e_v19
          refine G_callVv F (As := [.inl (v18 / (8 : Int32))]) (st := []) (metX7_runs X e_v19) hc_v19 rfl rfl (lw_V q1582 q1584 qs71 q109 q1585) hdfX7_runs ⟨by omega, by decide⟩ rfl (Nat.le_of_ble_eq_true rfl) ⟨by omega, by omega⟩ dX7_dayGoes_69 ?_
          refine G_if_eq F (tgt := 97) dX7_dayGoes_72 (by decide) (fun c20 => ?_) (fun c20 => ?_)
          · have h := itt c20 h
            refine G_iinc F (v := (s1_14 + (1 : Int32))) (L2 := [some (.inr a0), some (.inl (s1_14 + (1 : Int32)))]) dX7_dayGoes_97 (by decide) rfl rfl rfl ?_
            refine G_goto F (tgt := 51) dX7_dayGoes_100 (by decide) ?_
            cases h
            exact G_sub F (L2 := [some (.inr a0), some (.inl (s1_14 + (1 : Int32)))]) ⟨rfl, ⟨rfl, trivial⟩⟩ (hP14 _ rfl)
          · have h := itf c20 h
            refine G_aload_n F dX7_dayGoes_75 rfl ?_
            refine G_aload_n F dX7_dayGoes_76 rfl ?_
            obtain ⟨v21, e_v21, h⟩ := bnd h
            refine G_getR F okX7 (f := 10) (by decide) q1234 rfl dX7_dayGoes_77 e_v21 ?_
            refine G_iload_n F dX7_dayGoes_80 rfl ?_
            obtain ⟨v22, e_v22, h⟩ := bnd h
            refine G_iald F dX7_dayGoes_81 e_v22 ?_
            refine G_bipush F (v := (8 : Int32)) dX7_dayGoes_82 (by decide) ?_
            refine G_idiv F (by decide) dX7_dayGoes_84 ?_
            refine G_aload_n F dX7_dayGoes_85 rfl ?_
            obtain ⟨v23, e_v23, h⟩ := bnd h
            refine G_getR F okX7 (f := 10) (by decide) q1234 rfl dX7_dayGoes_86 e_v23 ?_
            refine G_iload_n F dX7_dayGoes_89 rfl ?_
            obtain ⟨v24, e_v24, h⟩ := bnd h
            refine G_iald F dX7_dayGoes_90 e_v24 ?_
            refine G_bipush F (v := (8 : Int32)) dX7_dayGoes_91 (by decide) ?_
            refine G_irem F (by decide) dX7_dayGoes_93 ?_
            obtain ⟨m25, e_m25, h⟩ := bnd h
            obtain ⟨hc_m25, e_m25⟩ := hp_on_of e_m25
            refine G_callV0 F (As := [.inl (v22 / (8 : Int32)), .inl (jrem v24 (8 : Int32))]) (st := []) (metX7_stops X e_m25) hc_m25 rfl rfl (lw_V q1586 q1588 qs72 q109 q1589) hdfX7_stops ⟨by omega, by decide⟩ rfl (Nat.le_of_ble_eq_true rfl) ⟨by omega, by omega⟩ dX7_dayGoes_94 ?_
            refine G_iinc F (v := (s1_14 + (1 : Int32))) (L2 := [some (.inr a0), some (.inl (s1_14 + (1 : Int32)))]) dX7_dayGoes_97 (by decide) rfl rfl rfl ?_
            refine G_goto F (tgt := 51) dX7_dayGoes_100 (by decide) ?_
            cases h
            exact G_sub F (L2 := [some (.inr a0), some (.inl (s1_14 + (1 : Int32)))]) ⟨rfl, ⟨rfl, trivial⟩⟩ (hP14 _ rfl)
      have hI := iter_ok (fun (s : (Int32 × Hp)) => match s with | (s1_14, m14) => G X cx 2 (Qm X cx none m_ nx 0 0) (0) (0) m14 (nx) [some (.inr a0), some (.inl s1_14)] [] 51) (fun q => q = r14) KB14 _ _ _ hr14 rfl
      exact G_sub F (L2 := [some (.inr a0), some (.inl (0 : Int32))]) ⟨rfl, ⟨rfl, trivial⟩⟩ hI
    have KB6 : ∀ s o6, fX7_dayGoes_L23 a0 s = some o6 → (∀ s', o6 = Sum.inl s' → (fun (s : (Int32 × Hp)) => match s with | (s1_6, m6) => G X cx 2 (Qm X cx none m_ nx 0 0) (0) (0) m6 (nx) [some (.inr a0), some (.inl s1_6)] [] 23) s') → (∀ q, o6 = Sum.inr q → q = r6) → (fun (s : (Int32 × Hp)) => match s with | (s1_6, m6) => G X cx 2 (Qm X cx none m_ nx 0 0) (0) (0) m6 (nx) [some (.inr a0), some (.inl s1_6)] [] 23) s := by
      intro s o6 h hP6 hE6
      obtain ⟨s1_6, m6⟩ := s
      try dsimp only at hP6 hE6 ⊢
      refine G_iload_n F dX7_dayGoes_23 rfl ?_
      refine G_aload_n F dX7_dayGoes_24 rfl ?_
      obtain ⟨v7, e_v7, h⟩ := bnd h
      refine G_getI F okX7 (f := 14) (by decide) q1238 rfl dX7_dayGoes_25 e_v7 ?_
      refine G_icmp_ge F (tgt := 49) dX7_dayGoes_28 (by decide) (fun c8 => ?_) (fun c8 => ?_)
      · have h := itt c8 h
        cases h
        exact G_sub F (L2 := [some (.inr a0), none]) ⟨rfl, trivial⟩ (KE6 _ (hE6 _ rfl))
      · have h := itf c8 h
        refine G_aload_n F dX7_dayGoes_31 rfl ?_
        obtain ⟨v9, e_v9, h⟩ := bnd h
        refine G_getR F okX7 (f := 51) (by decide) q1275 rfl dX7_dayGoes_32 e_v9 ?_
        refine G_iload_n F dX7_dayGoes_35 rfl ?_
        refine G_aload_n F dX7_dayGoes_36 rfl ?_
        obtain ⟨v10, e_v10, h⟩ := bnd h
        refine G_getR F okX7 (f := 9) (by decide) q1233 rfl dX7_dayGoes_37 e_v10 ?_
        refine G_iload_n F dX7_dayGoes_40 rfl ?_
        obtain ⟨v11, e_v11, h⟩ := bnd h
        refine G_iald F dX7_dayGoes_41 e_v11 ?_
        obtain ⟨m12, e_m12, h⟩ := bnd h
        refine G_iast F dX7_dayGoes_42 e_m12 ?_
        refine G_iinc F (v := (s1_6 + (1 : Int32))) (L2 := [some (.inr a0), some (.inl (s1_6 + (1 : Int32)))]) dX7_dayGoes_43 (by decide) rfl rfl rfl ?_
        refine G_goto F (tgt := 23) dX7_dayGoes_46 (by decide) ?_
        cases h
        exact G_sub F (L2 := [some (.inr a0), some (.inl (s1_6 + (1 : Int32)))]) ⟨rfl, ⟨rfl, trivial⟩⟩ (hP6 _ rfl)
    have hI := iter_ok (fun (s : (Int32 × Hp)) => match s with | (s1_6, m6) => G X cx 2 (Qm X cx none m_ nx 0 0) (0) (0) m6 (nx) [some (.inr a0), some (.inl s1_6)] [] 23) (fun q => q = r6) KB6 _ _ _ hr6 rfl
    exact G_sub F (L2 := [some (.inr a0), some (.inl (0 : Int32))]) ⟨rfl, ⟨rfl, trivial⟩⟩ hI
  have KB1 : ∀ s o1, fX7_dayGoes_L2 a0 s = some o1 → (∀ s', o1 = Sum.inl s' → (fun (s : (Int32 × Hp)) => match s with | (s1_1, m1) => G X cx 2 (Qm X cx none m_ nx 0 0) (0) (0) m1 (nx) [some (.inr a0), some (.inl s1_1)] [] 2) s') → (∀ q, o1 = Sum.inr q → q = r1) → (fun (s : (Int32 × Hp)) => match s with | (s1_1, m1) => G X cx 2 (Qm X cx none m_ nx 0 0) (0) (0) m1 (nx) [some (.inr a0), some (.inl s1_1)] [] 2) s := by
    intro s o1 h hP1 hE1
    obtain ⟨s1_1, m1⟩ := s
    try dsimp only at hP1 hE1 ⊢
    refine G_iload_n F dX7_dayGoes_2 rfl ?_
    refine G_bipush F (v := (12 : Int32)) dX7_dayGoes_3 (by decide) ?_
    refine G_icmp_ge F (tgt := 21) dX7_dayGoes_5 (by decide) (fun c2 => ?_) (fun c2 => ?_)
    · have h := itt c2 h
      cases h
      exact G_sub F (L2 := [some (.inr a0), none]) ⟨rfl, trivial⟩ (KE1 _ (hE1 _ rfl))
    · have h := itf c2 h
      refine G_aload_n F dX7_dayGoes_8 rfl ?_
      obtain ⟨v3, e_v3, h⟩ := bnd h
      refine G_getR F okX7 (f := 50) (by decide) q1274 rfl dX7_dayGoes_9 e_v3 ?_
      refine G_iload_n F dX7_dayGoes_12 rfl ?_
      refine G_iconst F (v := (-1 : Int32)) dX7_dayGoes_13 (by decide) ?_
      obtain ⟨m4, e_m4, h⟩ := bnd h
      refine G_iast F dX7_dayGoes_14 e_m4 ?_
      refine G_iinc F (v := (s1_1 + (1 : Int32))) (L2 := [some (.inr a0), some (.inl (s1_1 + (1 : Int32)))]) dX7_dayGoes_15 (by decide) rfl rfl rfl ?_
      refine G_goto F (tgt := 2) dX7_dayGoes_18 (by decide) ?_
      cases h
      exact G_sub F (L2 := [some (.inr a0), some (.inl (s1_1 + (1 : Int32)))]) ⟨rfl, ⟨rfl, trivial⟩⟩ (hP1 _ rfl)
  have hI := iter_ok (fun (s : (Int32 × Hp)) => match s with | (s1_1, m1) => G X cx 2 (Qm X cx none m_ nx 0 0) (0) (0) m1 (nx) [some (.inr a0), some (.inl s1_1)] [] 2) (fun q => q = r1) KB1 _ _ _ hr1 rfl
  exact G_sub F (L2 := [some (.inr a0), some (.inl (0 : Int32))]) ⟨rfl, ⟨rfl, trivial⟩⟩ hI

theorem metX7_daysGo (X : Gx) {m : Hp} {nx : Nat} {a0 : Option Nat} {a1 : Int32} {m_ : Hp} (h : fX7_daysGo m a0 a1 = some m_) : Con X (7) yX7_daysGo cX7_daysGo 3 ((none : Option FieldType)) [.inr a0, .inl a1] m nx none m_ 0 0 := by
  refine Con.of (own := RX7) (nm := "daysGo") (L := [some (.inr a0), some (.inl a1), none]) (by decide +kernel) rfl rfl (Nat.le_of_ble_eq_true rfl) (ent_of 1 rfl) ?_
  intro cx F
  refine G_aload_n F dX7_daysGo_0 rfl ?_
  refine G_iconst F (v := (0 : Int32)) dX7_daysGo_1 (by decide) ?_
  obtain ⟨m1, e_m1, h⟩ := bnd h
  refine G_putV F okX7 (f := 52) (by decide) q1276 rfl rfl dX7_daysGo_2 (vfit_int _) e_m1 ?_
  refine G_aload_n F dX7_daysGo_5 rfl ?_
  refine G_iconst F (v := (0 : Int32)) dX7_daysGo_6 (by decide) ?_
  obtain ⟨m2, e_m2, h⟩ := bnd h
  refine G_putV F okX7 (f := 53) (by decide) q1277 rfl rfl dX7_daysGo_7 (vfit_int _) e_m2 ?_
  refine G_aload_n F dX7_daysGo_10 rfl ?_
  refine G_iconst F (v := (0 : Int32)) dX7_daysGo_11 (by decide) ?_
  obtain ⟨m3, e_m3, h⟩ := bnd h
  refine G_putV F okX7 (f := 54) (by decide) q1278 rfl rfl dX7_daysGo_12 (vfit_int _) e_m3 ?_
  refine G_iconst F (v := (0 : Int32)) dX7_daysGo_15 (by decide) ?_
  refine G_istore_n F (L2 := [some (.inr a0), some (.inl a1), some (.inl (0 : Int32))]) dX7_daysGo_16 (by decide) rfl ?_
  obtain ⟨r4, hr4, h⟩ := bnd h
  have KE4 : ∀ (m10 : Hp), m10 = r4 → G X cx 3 (Qm X cx none m_ nx 0 0) (0) (0) m10 (nx) [none, none, none] [] 45 := by
    intro m10 hq
    subst hq
    try dsimp only at h
    cases h
    exact G_vret F rfl (Nat.le_refl _) (Nat.le_refl _) rfl dX7_daysGo_45
  have KB4 : ∀ s o4, fX7_daysGo_L17 a0 a1 s = some o4 → (∀ s', o4 = Sum.inl s' → (fun (s : (Int32 × Hp)) => match s with | (s2_4, m4) => G X cx 3 (Qm X cx none m_ nx 0 0) (0) (0) m4 (nx) [some (.inr a0), some (.inl a1), some (.inl s2_4)] [] 17) s') → (∀ q, o4 = Sum.inr q → q = r4) → (fun (s : (Int32 × Hp)) => match s with | (s2_4, m4) => G X cx 3 (Qm X cx none m_ nx 0 0) (0) (0) m4 (nx) [some (.inr a0), some (.inl a1), some (.inl s2_4)] [] 17) s := by
    intro s o4 h hP4 hE4
    obtain ⟨s2_4, m4⟩ := s
    try dsimp only at hP4 hE4 ⊢
    refine G_iload_n F dX7_daysGo_17 rfl ?_
    refine G_iload_n F dX7_daysGo_18 rfl ?_
    refine G_icmp_ge F (tgt := 45) dX7_daysGo_19 (by decide) (fun c5 => ?_) (fun c5 => ?_)
    · have h := itt c5 h
      cases h
      exact G_sub F (L2 := [none, none, none]) trivial (KE4 _ (hE4 _ rfl))
    · have h := itf c5 h
      refine G_aload_n F dX7_daysGo_22 rfl ?_
      obtain ⟨v6, e_v6, h⟩ := bnd h
      refine G_getR F okX7 (f := 0) (by decide) q1224 rfl dX7_daysGo_23 e_v6 ?_
      refine G_bipush F (v := (24 : Int32)) dX7_daysGo_26 (by decide) ?_
      obtain ⟨v7, e_v7, h⟩ := bnd h
      refine G_iald F dX7_daysGo_28 e_v7 ?_
      refine G_sipush F (v := (9999 : Int32)) dX7_daysGo_29 (by decide) ?_
      refine G_icmp_ge F (tgt := 45) dX7_daysGo_32 (by decide) (fun c8 => ?_) (fun c8 => ?_)
      · have h := itt c8 h
        cases h
        exact G_sub F (L2 := [none, none, none]) trivial (KE4 _ (hE4 _ rfl))
      · have h := itf c8 h
        refine G_aload_n F dX7_daysGo_35 rfl ?_
        obtain ⟨m9, e_m9, h⟩ := bnd h
        obtain ⟨hc_m9, e_m9⟩ := hp_on_of e_m9
        refine G_callV0 F (As := []) (st := []) (metX7_dayGoes X e_m9) hc_m9 rfl rfl (lw_V q1578 q1580 qs70 q109 q1581) hdfX7_dayGoes ⟨by omega, by decide⟩ rfl (Nat.le_of_ble_eq_true rfl) ⟨by omega, by omega⟩ dX7_daysGo_36 ?_
        refine G_iinc F (v := (s2_4 + (1 : Int32))) (L2 := [some (.inr a0), some (.inl a1), some (.inl (s2_4 + (1 : Int32)))]) dX7_daysGo_39 (by decide) rfl rfl rfl ?_
        refine G_goto F (tgt := 17) dX7_daysGo_42 (by decide) ?_
        cases h
        exact G_sub F (L2 := [some (.inr a0), some (.inl a1), some (.inl (s2_4 + (1 : Int32)))]) ⟨rfl, ⟨rfl, ⟨rfl, trivial⟩⟩⟩ (hP4 _ rfl)
  have hI := iter_ok (fun (s : (Int32 × Hp)) => match s with | (s2_4, m4) => G X cx 3 (Qm X cx none m_ nx 0 0) (0) (0) m4 (nx) [some (.inr a0), some (.inl a1), some (.inl s2_4)] [] 17) (fun q => q = r4) KB4 _ _ _ hr4 rfl
  exact G_sub F (L2 := [some (.inr a0), some (.inl a1), some (.inl (0 : Int32))]) ⟨rfl, ⟨rfl, ⟨rfl, trivial⟩⟩⟩ hI

theorem metX7_days (X : Gx) {m : Hp} {nx : Nat} {a0 : Option Nat} {a1 : Int32} {rv : Int32} {m_ : Hp} (h : fX7_days m a0 a1 = some (rv, m_)) : Con X (8) yX7_days cX7_days 2 ((Option.some FieldType.int)) [.inr a0, .inl a1] m nx (some (.inl rv)) m_ 0 0 := by
  refine Con.of (own := RX7) (nm := "days") (L := [some (.inr a0), some (.inl a1)]) (by decide +kernel) rfl rfl (Nat.le_of_ble_eq_true rfl) (ent_of 0 rfl) ?_
  intro cx F
  refine G_iload_n F dX7_days_0 rfl ?_
  refine G_iconst F (v := (1 : Int32)) dX7_days_1 (by decide) ?_
  refine G_bipush F (v := (30 : Int32)) dX7_days_2 (by decide) ?_
  obtain ⟨v1, e_v1, h⟩ := bnd h
  refine G_callSv F (As := [.inl a1, .inl (1 : Int32), .inl (30 : Int32)]) (st := []) (metX7_in X e_v1) (lw_S q1427 q1428 q109 q1429) hdfX7_in ⟨by omega, by decide⟩ rfl (Nat.le_of_ble_eq_true rfl) ⟨by omega, by omega⟩ dX7_days_4 ?_
  refine G_if_ne F (tgt := 12) dX7_days_7 (by decide) (fun c2 => ?_) (fun c2 => ?_)
  · have h := itf c2 h
    refine G_aload_n F dX7_days_12 rfl ?_
    refine G_iload_n F dX7_days_13 rfl ?_
    obtain ⟨m3, e_m3, h⟩ := bnd h
    obtain ⟨hc_m3, e_m3⟩ := hp_on_of e_m3
    refine G_callV0 F (As := [.inl a1]) (st := []) (metX7_daysGo X e_m3) hc_m3 rfl rfl (lw_V q1574 q1576 qs69 q109 q1577) hdfX7_daysGo ⟨by omega, by decide⟩ rfl (Nat.le_of_ble_eq_true rfl) ⟨by omega, by omega⟩ dX7_days_14 ?_
    refine G_aload_n F dX7_days_17 rfl ?_
    obtain ⟨v4, e_v4, h⟩ := bnd h
    refine G_getI F okX7 (f := 52) (by decide) q1276 rfl dX7_days_18 e_v4 ?_
    cases h
    exact G_iret F rfl (Nat.le_refl _) (Nat.le_refl _) rfl dX7_days_21
  · have h := itt c2 h
    refine G_iconst F (v := (-1 : Int32)) dX7_days_10 (by decide) ?_
    cases h
    exact G_iret F rfl (Nat.le_refl _) (Nat.le_refl _) rfl dX7_days_11

theorem metX7_tried (X : Gx) {m : Hp} {nx : Nat} {a0 : Option Nat} {a1 : Int32} {a2 : Int32} {rv : Int32} {m_ : Hp} (h : fX7_tried m a0 a1 a2 = some (rv, m_)) : Con X (8) yX7_tried cX7_tried 4 ((Option.some FieldType.int)) [.inr a0, .inl a1, .inl a2] m nx (some (.inl rv)) m_ 0 0 := by
  refine Con.of (own := RX7) (nm := "tried") (L := [some (.inr a0), some (.inl a1), some (.inl a2), none]) (by decide +kernel) rfl rfl (Nat.le_of_ble_eq_true rfl) (ent_of 1 rfl) ?_
  intro cx F
  refine G_iload_n F dX7_tried_0 rfl ?_
  refine G_iconst F (v := (1 : Int32)) dX7_tried_1 (by decide) ?_
  refine G_bipush F (v := (30 : Int32)) dX7_tried_2 (by decide) ?_
  obtain ⟨v1, e_v1, h⟩ := bnd h
  refine G_callSv F (As := [.inl a1, .inl (1 : Int32), .inl (30 : Int32)]) (st := []) (metX7_in X e_v1) (lw_S q1427 q1428 q109 q1429) hdfX7_in ⟨by omega, by decide⟩ rfl (Nat.le_of_ble_eq_true rfl) ⟨by omega, by omega⟩ dX7_tried_4 ?_
  refine G_if_eq F (tgt := 42) dX7_tried_7 (by decide) (fun c2 => ?_) (fun c2 => ?_)
  · have h := itt c2 h
    refine G_iconst F (v := (-1 : Int32)) dX7_tried_42 (by decide) ?_
    cases h
    exact G_iret F rfl (Nat.le_refl _) (Nat.le_refl _) rfl dX7_tried_43
  · have h := itf c2 h
    refine G_iload_n F dX7_tried_10 rfl ?_
    refine G_iconst F (v := (0 : Int32)) dX7_tried_11 (by decide) ?_
    refine G_iconst F (v := (2 : Int32)) dX7_tried_12 (by decide) ?_
    obtain ⟨v3, e_v3, h⟩ := bnd h
    refine G_callSv F (As := [.inl a2, .inl (0 : Int32), .inl (2 : Int32)]) (st := []) (metX7_in X e_v3) (lw_S q1427 q1428 q109 q1429) hdfX7_in ⟨by omega, by decide⟩ rfl (Nat.le_of_ble_eq_true rfl) ⟨by omega, by omega⟩ dX7_tried_13 ?_
    obtain ⟨p4, hp4, h⟩ := bnd h
    have K4 : ∀ (_ : Unit), Sum.inl () = p4 → G X cx 4 (Qm X cx (some (.inl rv)) m_ nx 0 0) (0) (0) m (nx) [some (.inr a0), some (.inl a1), some (.inl a2), none] [] 44 := by
      intro _ hq
      subst hq
      try dsimp only at h
      refine G_aload_n F dX7_tried_44 rfl ?_
      obtain ⟨v5, e_v5, h⟩ := bnd h
      refine G_getR F okX7 (f := 0) (by decide) q1224 rfl dX7_tried_45 e_v5 ?_
      refine G_aload_n F dX7_tried_48 rfl ?_
      obtain ⟨v6, e_v6, h⟩ := bnd h
      refine G_getR F okX7 (f := 1) (by decide) q1225 rfl dX7_tried_49 e_v6 ?_
      obtain ⟨m7, e_m7, h⟩ := bnd h
      refine G_callS0 F (As := [.inr v5, .inr v6]) (st := []) (metX7_copies X e_m7) (lw_S q1640 q1641 q109 q1642) hdfX7_copies ⟨by omega, by decide⟩ rfl (Nat.le_of_ble_eq_true rfl) ⟨by omega, by omega⟩ dX7_tried_52 ?_
      refine G_aload_n F dX7_tried_55 rfl ?_
      refine G_iload_n F dX7_tried_56 rfl ?_
      obtain ⟨m8, e_m8, h⟩ := bnd h
      obtain ⟨hc_m8, e_m8⟩ := hp_on_of e_m8
      refine G_callV0 F (As := [.inl a1]) (st := []) (metX7_daysGo X e_m8) hc_m8 rfl rfl (lw_V q1574 q1576 qs69 q109 q1577) hdfX7_daysGo ⟨by omega, by decide⟩ rfl (Nat.le_of_ble_eq_true rfl) ⟨by omega, by omega⟩ dX7_tried_57 ?_
      refine G_iload_n F dX7_tried_60 rfl ?_
      obtain ⟨p10, hp10, h⟩ := bnd h
      have K10 : ∀ (v9 : Int32), v9 = p10 → G X cx 4 (Qm X cx (some (.inl rv)) m_ nx 0 0) (0) (0) m8 (nx) [some (.inr a0), none, none, some (.inl v9)] [] 147 := by
        intro v9 hq
        subst hq
        try dsimp only at h
        refine G_aload_n F dX7_tried_147 rfl ?_
        obtain ⟨v11, e_v11, h⟩ := bnd h
        refine G_getR F okX7 (f := 1) (by decide) q1225 rfl dX7_tried_148 e_v11 ?_
        refine G_aload_n F dX7_tried_151 rfl ?_
        obtain ⟨v12, e_v12, h⟩ := bnd h
        refine G_getR F okX7 (f := 0) (by decide) q1224 rfl dX7_tried_152 e_v12 ?_
        obtain ⟨m13, e_m13, h⟩ := bnd h
        refine G_callS0 F (As := [.inr v11, .inr v12]) (st := []) (metX7_copies X e_m13) (lw_S q1640 q1641 q109 q1642) hdfX7_copies ⟨by omega, by decide⟩ rfl (Nat.le_of_ble_eq_true rfl) ⟨by omega, by omega⟩ dX7_tried_155 ?_
        refine G_iload_n F dX7_tried_158 rfl ?_
        cases h
        exact G_iret F rfl (Nat.le_refl _) (Nat.le_refl _) rfl dX7_tried_159
      have h := hp10
      clear hp10
      by_cases c14 : a2 = (0 : Int32)
      · have h := itt c14 h
        refine G_tabIn F (tgt := 88) dX7_tried_61 (by rw [c14]; decide) (by rw [c14]; decide) (by rw [c14]; rfl) (by decide) ?_
        refine G_aload_n F dX7_tried_88 rfl ?_
        obtain ⟨v15, e_v15, h⟩ := bnd h
        refine G_getI F okX7 (f := 52) (by decide) q1276 rfl dX7_tried_89 e_v15 ?_
        refine G_istore_n F (L2 := [some (.inr a0), some (.inl a1), some (.inl a2), some (.inl v15)]) dX7_tried_92 (by decide) rfl ?_
        refine G_goto F (tgt := 147) dX7_tried_93 (by decide) ?_
        have hq_ := Option.some.inj h
        exact G_sub F (L2 := [some (.inr a0), none, none, some (.inl v15)]) ⟨rfl, ⟨rfl, trivial⟩⟩ (K10 _ hq_)
      have h := itf c14 h
      by_cases c16 : a2 = (1 : Int32)
      · have h := itt c16 h
        refine G_tabIn F (tgt := 96) dX7_tried_61 (by rw [c16]; decide) (by rw [c16]; decide) (by rw [c16]; rfl) (by decide) ?_
        refine G_aload_n F dX7_tried_96 rfl ?_
        obtain ⟨v17, e_v17, h⟩ := bnd h
        refine G_getI F okX7 (f := 53) (by decide) q1277 rfl dX7_tried_97 e_v17 ?_
        refine G_istore_n F (L2 := [some (.inr a0), some (.inl a1), some (.inl a2), some (.inl v17)]) dX7_tried_100 (by decide) rfl ?_
        refine G_goto F (tgt := 147) dX7_tried_101 (by decide) ?_
        have hq_ := Option.some.inj h
        exact G_sub F (L2 := [some (.inr a0), none, none, some (.inl v17)]) ⟨rfl, ⟨rfl, trivial⟩⟩ (K10 _ hq_)
      have h := itf c16 h
      by_cases c18 : a2 = (2 : Int32)
      · have h := itt c18 h
        refine G_tabIn F (tgt := 104) dX7_tried_61 (by rw [c18]; decide) (by rw [c18]; decide) (by rw [c18]; rfl) (by decide) ?_
        refine G_aload_n F dX7_tried_104 rfl ?_
        obtain ⟨v19, e_v19, h⟩ := bnd h
        refine G_getI F okX7 (f := 54) (by decide) q1278 rfl dX7_tried_105 e_v19 ?_
        refine G_istore_n F (L2 := [some (.inr a0), some (.inl a1), some (.inl a2), some (.inl v19)]) dX7_tried_108 (by decide) rfl ?_
        refine G_goto F (tgt := 147) dX7_tried_109 (by decide) ?_
        have hq_ := Option.some.inj h
        exact G_sub F (L2 := [some (.inr a0), none, none, some (.inl v19)]) ⟨rfl, ⟨rfl, trivial⟩⟩ (K10 _ hq_)
      have h := itf c18 h
      refine G_tabDef F (tgt := 112) dX7_tried_61 [(0 : Int32), (1 : Int32), (2 : Int32)] (by decide) (by decide) (List.forall_mem_cons.mpr ⟨c14, List.forall_mem_cons.mpr ⟨c16, List.forall_mem_cons.mpr ⟨c18, fa_nil⟩⟩⟩) (by decide) ?_
      refine G_iload_n F dX7_tried_112 rfl ?_
      refine G_sipush F (v := (200 : Int32)) dX7_tried_113 (by decide) ?_
      refine G_icmp_ge F (tgt := 134) dX7_tried_116 (by decide) (fun c20 => ?_) (fun c20 => ?_)
      · have h := itt c20 h
        refine G_aload_n F dX7_tried_134 rfl ?_
        obtain ⟨v21, e_v21, h⟩ := bnd h
        refine G_getR F okX7 (f := 0) (by decide) q1224 rfl dX7_tried_135 e_v21 ?_
        refine G_iconst F (v := (0 : Int32)) dX7_tried_138 (by decide) ?_
        refine G_iload_n F dX7_tried_139 rfl ?_
        refine G_iadd F dX7_tried_140 ?_
        refine G_sipush F (v := (200 : Int32)) dX7_tried_141 (by decide) ?_
        refine G_isub F dX7_tried_144 ?_
        obtain ⟨v22, e_v22, h⟩ := bnd h
        refine G_iald F dX7_tried_145 e_v22 ?_
        refine G_istore_n F (L2 := [some (.inr a0), some (.inl a1), some (.inl a2), some (.inl v22)]) dX7_tried_146 (by decide) rfl ?_
        have hq_ := Option.some.inj h
        exact G_sub F (L2 := [some (.inr a0), none, none, some (.inl v22)]) ⟨rfl, ⟨rfl, trivial⟩⟩ (K10 _ hq_)
      · have h := itf c20 h
        refine G_aload_n F dX7_tried_119 rfl ?_
        obtain ⟨v23, e_v23, h⟩ := bnd h
        refine G_getR F okX7 (f := 0) (by decide) q1224 rfl dX7_tried_120 e_v23 ?_
        refine G_bipush F (v := (12 : Int32)) dX7_tried_123 (by decide) ?_
        refine G_iload_n F dX7_tried_125 rfl ?_
        refine G_iadd F dX7_tried_126 ?_
        refine G_bipush F (v := (100 : Int32)) dX7_tried_127 (by decide) ?_
        refine G_isub F dX7_tried_129 ?_
        obtain ⟨v24, e_v24, h⟩ := bnd h
        refine G_iald F dX7_tried_130 e_v24 ?_
        refine G_goto F (tgt := 146) dX7_tried_131 (by decide) ?_
        refine G_istore_n F (L2 := [some (.inr a0), some (.inl a1), some (.inl a2), some (.inl v24)]) dX7_tried_146 (by decide) rfl ?_
        have hq_ := Option.some.inj h
        exact G_sub F (L2 := [some (.inr a0), none, none, some (.inl v24)]) ⟨rfl, ⟨rfl, trivial⟩⟩ (K10 _ hq_)
    have K4o : ∀ o, Sum.inr o = p4 → some o = some (rv, m_) := by
      intro o hq
      subst hq
      exact h
    have h := hp4
    clear hp4
    refine G_if_ne F (tgt := 44) dX7_tried_16 (by decide) (fun c25 => ?_) (fun c25 => ?_)
    · have h := itf c25 h
      have hq_ := Option.some.inj h
      exact G_sub F (L2 := [some (.inr a0), some (.inl a1), some (.inl a2), none]) ⟨rfl, ⟨rfl, ⟨rfl, trivial⟩⟩⟩ (K4 () hq_)
    · have h := itt c25 h
      refine G_aload_n F dX7_tried_19 rfl ?_
      refine G_iload_n F dX7_tried_20 rfl ?_
      refine G_bipush F (v := (100 : Int32)) dX7_tried_21 (by decide) ?_
      refine G_isub F dX7_tried_23 ?_
      obtain ⟨v26, e_v26, h⟩ := bnd h
      obtain ⟨hc_v26, e_v26⟩ := hp_on_of e_v26
      refine G_callVv F (As := [.inl (a2 - (100 : Int32))]) (st := []) (metX7_isPerson X e_v26) hc_v26 rfl rfl (lw_V q1636 q1638 qs81 q109 q1639) hdfX7_isPerson ⟨by omega, by decide⟩ rfl (Nat.le_of_ble_eq_true rfl) ⟨by omega, by omega⟩ dX7_tried_24 ?_
      refine G_if_ne F (tgt := 44) dX7_tried_27 (by decide) (fun c27 => ?_) (fun c27 => ?_)
      · have h := itf c27 h
        have hq_ := Option.some.inj h
        exact G_sub F (L2 := [some (.inr a0), some (.inl a1), some (.inl a2), none]) ⟨rfl, ⟨rfl, ⟨rfl, trivial⟩⟩⟩ (K4 () hq_)
      · have h := itt c27 h
        refine G_aload_n F dX7_tried_30 rfl ?_
        refine G_iload_n F dX7_tried_31 rfl ?_
        refine G_sipush F (v := (200 : Int32)) dX7_tried_32 (by decide) ?_
        refine G_isub F dX7_tried_35 ?_
        obtain ⟨v28, e_v28, h⟩ := bnd h
        obtain ⟨hc_v28, e_v28⟩ := hp_on_of e_v28
        refine G_callVv F (As := [.inl (a2 - (200 : Int32))]) (st := []) (metX7_isPerson X e_v28) hc_v28 rfl rfl (lw_V q1636 q1638 qs81 q109 q1639) hdfX7_isPerson ⟨by omega, by decide⟩ rfl (Nat.le_of_ble_eq_true rfl) ⟨by omega, by omega⟩ dX7_tried_36 ?_
        refine G_if_ne F (tgt := 44) dX7_tried_39 (by decide) (fun c29 => ?_) (fun c29 => ?_)
        · have h := itf c29 h
          have hq_ := Option.some.inj h
          exact G_sub F (L2 := [some (.inr a0), some (.inl a1), some (.inl a2), none]) ⟨rfl, ⟨rfl, ⟨rfl, trivial⟩⟩⟩ (K4 () hq_)
        · have h := itt c29 h
          refine G_iconst F (v := (-1 : Int32)) dX7_tried_42 (by decide) ?_
          have hq_ := Option.some.inj h
          have h := K4o _ hq_
          cases h
          exact G_iret F rfl (Nat.le_refl _) (Nat.le_refl _) rfl dX7_tried_43

theorem metX7_personIs (X : Gx) {m : Hp} {nx : Nat} {a0 : Option Nat} {a1 : Int32} {a2 : Int32} {rv : Int32} (h : fX7_personIs m a0 a1 a2 = some rv) : Con X (3) yX7_personIs cX7_personIs 3 ((Option.some FieldType.int)) [.inr a0, .inl a1, .inl a2] m nx (some (.inl rv)) m 0 0 := by
  refine Con.of (own := RX7) (nm := "personIs") (L := [some (.inr a0), some (.inl a1), some (.inl a2)]) (by decide +kernel) rfl rfl (Nat.le_of_ble_eq_true rfl) (ent_of 0 rfl) ?_
  intro cx F
  refine G_aload_n F dX7_personIs_0 rfl ?_
  refine G_iload_n F dX7_personIs_1 rfl ?_
  obtain ⟨v1, e_v1, h⟩ := bnd h
  obtain ⟨hc_v1, e_v1⟩ := hp_on_of e_v1
  refine G_callVv F (As := [.inl a1]) (st := []) (metX7_isPerson X e_v1) hc_v1 rfl rfl (lw_V q1636 q1638 qs81 q109 q1639) hdfX7_isPerson ⟨by omega, by decide⟩ rfl (Nat.le_of_ble_eq_true rfl) ⟨by omega, by omega⟩ dX7_personIs_2 ?_
  refine G_if_ne F (tgt := 10) dX7_personIs_5 (by decide) (fun c2 => ?_) (fun c2 => ?_)
  · have h := itf c2 h
    refine G_iload_n F dX7_personIs_10 rfl ?_
    by_cases c3 : a2 = (0 : Int32)
    · have h := itt c3 h
      refine G_tabIn F (tgt := 44) dX7_personIs_11 (by rw [c3]; decide) (by rw [c3]; decide) (by rw [c3]; rfl) (by decide) ?_
      refine G_aload_n F dX7_personIs_44 rfl ?_
      obtain ⟨v4, e_v4, h⟩ := bnd h
      refine G_getR F okX7 (f := 3) (by decide) q1227 rfl dX7_personIs_45 e_v4 ?_
      refine G_iload_n F dX7_personIs_48 rfl ?_
      obtain ⟨v5, e_v5, h⟩ := bnd h
      refine G_iald F dX7_personIs_49 e_v5 ?_
      cases h
      exact G_iret F rfl (Nat.le_refl _) (Nat.le_refl _) rfl dX7_personIs_50
    have h := itf c3 h
    by_cases c6 : a2 = (1 : Int32)
    · have h := itt c6 h
      refine G_tabIn F (tgt := 51) dX7_personIs_11 (by rw [c6]; decide) (by rw [c6]; decide) (by rw [c6]; rfl) (by decide) ?_
      refine G_aload_n F dX7_personIs_51 rfl ?_
      obtain ⟨v7, e_v7, h⟩ := bnd h
      refine G_getR F okX7 (f := 4) (by decide) q1228 rfl dX7_personIs_52 e_v7 ?_
      refine G_iload_n F dX7_personIs_55 rfl ?_
      obtain ⟨v8, e_v8, h⟩ := bnd h
      refine G_iald F dX7_personIs_56 e_v8 ?_
      cases h
      exact G_iret F rfl (Nat.le_refl _) (Nat.le_refl _) rfl dX7_personIs_57
    have h := itf c6 h
    by_cases c9 : a2 = (2 : Int32)
    · have h := itt c9 h
      refine G_tabIn F (tgt := 58) dX7_personIs_11 (by rw [c9]; decide) (by rw [c9]; decide) (by rw [c9]; rfl) (by decide) ?_
      refine G_aload_n F dX7_personIs_58 rfl ?_
      obtain ⟨v10, e_v10, h⟩ := bnd h
      refine G_getR F okX7 (f := 5) (by decide) q1229 rfl dX7_personIs_59 e_v10 ?_
      refine G_iload_n F dX7_personIs_62 rfl ?_
      obtain ⟨v11, e_v11, h⟩ := bnd h
      refine G_iald F dX7_personIs_63 e_v11 ?_
      cases h
      exact G_iret F rfl (Nat.le_refl _) (Nat.le_refl _) rfl dX7_personIs_64
    have h := itf c9 h
    by_cases c12 : a2 = (3 : Int32)
    · have h := itt c12 h
      refine G_tabIn F (tgt := 65) dX7_personIs_11 (by rw [c12]; decide) (by rw [c12]; decide) (by rw [c12]; rfl) (by decide) ?_
      refine G_aload_n F dX7_personIs_65 rfl ?_
      obtain ⟨v13, e_v13, h⟩ := bnd h
      refine G_getR F okX7 (f := 0) (by decide) q1224 rfl dX7_personIs_66 e_v13 ?_
      refine G_iconst F (v := (0 : Int32)) dX7_personIs_69 (by decide) ?_
      refine G_iload_n F dX7_personIs_70 rfl ?_
      refine G_iadd F dX7_personIs_71 ?_
      obtain ⟨v14, e_v14, h⟩ := bnd h
      refine G_iald F dX7_personIs_72 e_v14 ?_
      cases h
      exact G_iret F rfl (Nat.le_refl _) (Nat.le_refl _) rfl dX7_personIs_73
    have h := itf c12 h
    by_cases c15 : a2 = (4 : Int32)
    · have h := itt c15 h
      refine G_tabIn F (tgt := 74) dX7_personIs_11 (by rw [c15]; decide) (by rw [c15]; decide) (by rw [c15]; rfl) (by decide) ?_
      refine G_aload_n F dX7_personIs_74 rfl ?_
      obtain ⟨v16, e_v16, h⟩ := bnd h
      refine G_getR F okX7 (f := 0) (by decide) q1224 rfl dX7_personIs_75 e_v16 ?_
      refine G_bipush F (v := (12 : Int32)) dX7_personIs_78 (by decide) ?_
      refine G_iload_n F dX7_personIs_80 rfl ?_
      refine G_iadd F dX7_personIs_81 ?_
      obtain ⟨v17, e_v17, h⟩ := bnd h
      refine G_iald F dX7_personIs_82 e_v17 ?_
      cases h
      exact G_iret F rfl (Nat.le_refl _) (Nat.le_refl _) rfl dX7_personIs_83
    have h := itf c15 h
    refine G_tabDef F (tgt := 84) dX7_personIs_11 [(0 : Int32), (1 : Int32), (2 : Int32), (3 : Int32), (4 : Int32)] (by decide) (by decide) (List.forall_mem_cons.mpr ⟨c3, List.forall_mem_cons.mpr ⟨c6, List.forall_mem_cons.mpr ⟨c9, List.forall_mem_cons.mpr ⟨c12, List.forall_mem_cons.mpr ⟨c15, fa_nil⟩⟩⟩⟩⟩) (by decide) ?_
    refine G_iconst F (v := (-1 : Int32)) dX7_personIs_84 (by decide) ?_
    cases h
    exact G_iret F rfl (Nat.le_refl _) (Nat.le_refl _) rfl dX7_personIs_85
  · have h := itt c2 h
    refine G_iconst F (v := (-1 : Int32)) dX7_personIs_8 (by decide) ?_
    cases h
    exact G_iret F rfl (Nat.le_refl _) (Nat.le_refl _) rfl dX7_personIs_9

theorem metX7_trainIs (X : Gx) {m : Hp} {nx : Nat} {a0 : Option Nat} {a1 : Int32} {a2 : Int32} {rv : Int32} (h : fX7_trainIs m a0 a1 a2 = some rv) : Con X (2) yX7_trainIs cX7_trainIs 4 ((Option.some FieldType.int)) [.inr a0, .inl a1, .inl a2] m nx (some (.inl rv)) m 0 0 := by
  refine Con.of (own := RX7) (nm := "trainIs") (L := [some (.inr a0), some (.inl a1), some (.inl a2), none]) (by decide +kernel) rfl rfl (Nat.le_of_ble_eq_true rfl) (ent_of 1 rfl) ?_
  intro cx F
  refine G_iload_n F dX7_trainIs_0 rfl ?_
  refine G_iconst F (v := (0 : Int32)) dX7_trainIs_1 (by decide) ?_
  refine G_aload_n F dX7_trainIs_2 rfl ?_
  obtain ⟨v1, e_v1, h⟩ := bnd h
  refine G_getI F okX7 (f := 14) (by decide) q1238 rfl dX7_trainIs_3 e_v1 ?_
  refine G_iconst F (v := (1 : Int32)) dX7_trainIs_6 (by decide) ?_
  refine G_isub F dX7_trainIs_7 ?_
  obtain ⟨v2, e_v2, h⟩ := bnd h
  refine G_callSv F (As := [.inl a1, .inl (0 : Int32), .inl (v1 - (1 : Int32))]) (st := []) (metX7_in X e_v2) (lw_S q1427 q1428 q109 q1429) hdfX7_in ⟨by omega, by decide⟩ rfl (Nat.le_of_ble_eq_true rfl) ⟨by omega, by omega⟩ dX7_trainIs_8 ?_
  refine G_if_ne F (tgt := 16) dX7_trainIs_11 (by decide) (fun c3 => ?_) (fun c3 => ?_)
  · have h := itf c3 h
    refine G_aload_n F dX7_trainIs_16 rfl ?_
    obtain ⟨v4, e_v4, h⟩ := bnd h
    refine G_getR F okX7 (f := 6) (by decide) q1230 rfl dX7_trainIs_17 e_v4 ?_
    refine G_iload_n F dX7_trainIs_20 rfl ?_
    obtain ⟨v5, e_v5, h⟩ := bnd h
    refine G_iald F dX7_trainIs_21 e_v5 ?_
    refine G_iconst F (v := (1 : Int32)) dX7_trainIs_22 (by decide) ?_
    refine G_isub F dX7_trainIs_23 ?_
    refine G_istore_n F (L2 := [some (.inr a0), some (.inl a1), some (.inl a2), some (.inl (v5 - (1 : Int32)))]) dX7_trainIs_24 (by decide) rfl ?_
    refine G_iload_n F dX7_trainIs_25 rfl ?_
    by_cases c6 : a2 = (0 : Int32)
    · have h := itt c6 h
      refine G_tabIn F (tgt := 68) dX7_trainIs_26 (by rw [c6]; decide) (by rw [c6]; decide) (by rw [c6]; rfl) (by decide) ?_
      refine G_aload_n F dX7_trainIs_68 rfl ?_
      obtain ⟨v7, e_v7, h⟩ := bnd h
      refine G_getR F okX7 (f := 6) (by decide) q1230 rfl dX7_trainIs_69 e_v7 ?_
      refine G_iload_n F dX7_trainIs_72 rfl ?_
      obtain ⟨v8, e_v8, h⟩ := bnd h
      refine G_iald F dX7_trainIs_73 e_v8 ?_
      cases h
      exact G_iret F rfl (Nat.le_refl _) (Nat.le_refl _) rfl dX7_trainIs_74
    have h := itf c6 h
    by_cases c9 : a2 = (1 : Int32)
    · have h := itt c9 h
      refine G_tabIn F (tgt := 75) dX7_trainIs_26 (by rw [c9]; decide) (by rw [c9]; decide) (by rw [c9]; rfl) (by decide) ?_
      refine G_aload_n F dX7_trainIs_75 rfl ?_
      obtain ⟨v10, e_v10, h⟩ := bnd h
      refine G_getR F okX7 (f := 12) (by decide) q1236 rfl dX7_trainIs_76 e_v10 ?_
      refine G_iload_n F dX7_trainIs_79 rfl ?_
      obtain ⟨v11, e_v11, h⟩ := bnd h
      refine G_zald F dX7_trainIs_80 e_v11 ?_
      refine G_if_eq F (tgt := 88) dX7_trainIs_81 (by decide) (fun c12 => ?_) (fun c12 => ?_)
      · have h := itt c12 h
        refine G_iconst F (v := (1 : Int32)) dX7_trainIs_88 (by decide) ?_
        cases h
        exact G_iret F rfl (Nat.le_refl _) (Nat.le_refl _) rfl dX7_trainIs_89
      · have h := itf c12 h
        refine G_iconst F (v := (0 : Int32)) dX7_trainIs_84 (by decide) ?_
        refine G_goto F (tgt := 89) dX7_trainIs_85 (by decide) ?_
        cases h
        exact G_iret F rfl (Nat.le_refl _) (Nat.le_refl _) rfl dX7_trainIs_89
    have h := itf c9 h
    by_cases c13 : a2 = (2 : Int32)
    · have h := itt c13 h
      refine G_tabIn F (tgt := 90) dX7_trainIs_26 (by rw [c13]; decide) (by rw [c13]; decide) (by rw [c13]; rfl) (by decide) ?_
      refine G_aload_n F dX7_trainIs_90 rfl ?_
      obtain ⟨v14, e_v14, h⟩ := bnd h
      refine G_getR F okX7 (f := 9) (by decide) q1233 rfl dX7_trainIs_91 e_v14 ?_
      refine G_iload_n F dX7_trainIs_94 rfl ?_
      obtain ⟨v15, e_v15, h⟩ := bnd h
      refine G_iald F dX7_trainIs_95 e_v15 ?_
      cases h
      exact G_iret F rfl (Nat.le_refl _) (Nat.le_refl _) rfl dX7_trainIs_96
    have h := itf c13 h
    by_cases c16 : a2 = (3 : Int32)
    · have h := itt c16 h
      refine G_tabIn F (tgt := 97) dX7_trainIs_26 (by rw [c16]; decide) (by rw [c16]; decide) (by rw [c16]; rfl) (by decide) ?_
      refine G_aload_n F dX7_trainIs_97 rfl ?_
      obtain ⟨v17, e_v17, h⟩ := bnd h
      refine G_getR F okX7 (f := 7) (by decide) q1231 rfl dX7_trainIs_98 e_v17 ?_
      refine G_iload_n F dX7_trainIs_101 rfl ?_
      refine G_iconst F (v := (0 : Int32)) dX7_trainIs_102 (by decide) ?_
      obtain ⟨v18, e_v18, h⟩ := bnd h
      refine G_callSv F (As := [.inl a1, .inl (0 : Int32)]) (st := [.inr v17]) (metX7_at X e_v18) (lw_S q1555 q1556 q109 q1557) hdfX7_at ⟨by omega, by decide⟩ rfl (Nat.le_of_ble_eq_true rfl) ⟨by omega, by omega⟩ dX7_trainIs_103 ?_
      obtain ⟨v19, e_v19, h⟩ := bnd h
      refine G_iald F dX7_trainIs_106 e_v19 ?_
      cases h
      exact G_iret F rfl (Nat.le_refl _) (Nat.le_refl _) rfl dX7_trainIs_107
    have h := itf c16 h
    by_cases c20 : a2 = (4 : Int32)
    · have h := itt c20 h
      refine G_tabIn F (tgt := 108) dX7_trainIs_26 (by rw [c20]; decide) (by rw [c20]; decide) (by rw [c20]; rfl) (by decide) ?_
      refine G_aload_n F dX7_trainIs_108 rfl ?_
      obtain ⟨v21, e_v21, h⟩ := bnd h
      refine G_getR F okX7 (f := 7) (by decide) q1231 rfl dX7_trainIs_109 e_v21 ?_
      refine G_iload_n F dX7_trainIs_112 rfl ?_
      refine G_iload_n F dX7_trainIs_113 rfl ?_
      obtain ⟨v22, e_v22, h⟩ := bnd h
      refine G_callSv F (As := [.inl a1, .inl (v5 - (1 : Int32))]) (st := [.inr v21]) (metX7_at X e_v22) (lw_S q1555 q1556 q109 q1557) hdfX7_at ⟨by omega, by decide⟩ rfl (Nat.le_of_ble_eq_true rfl) ⟨by omega, by omega⟩ dX7_trainIs_114 ?_
      obtain ⟨v23, e_v23, h⟩ := bnd h
      refine G_iald F dX7_trainIs_117 e_v23 ?_
      cases h
      exact G_iret F rfl (Nat.le_refl _) (Nat.le_refl _) rfl dX7_trainIs_118
    have h := itf c20 h
    by_cases c24 : a2 = (5 : Int32)
    · have h := itt c24 h
      refine G_tabIn F (tgt := 119) dX7_trainIs_26 (by rw [c24]; decide) (by rw [c24]; decide) (by rw [c24]; rfl) (by decide) ?_
      refine G_aload_n F dX7_trainIs_119 rfl ?_
      obtain ⟨v25, e_v25, h⟩ := bnd h
      refine G_getR F okX7 (f := 8) (by decide) q1232 rfl dX7_trainIs_120 e_v25 ?_
      refine G_iload_n F dX7_trainIs_123 rfl ?_
      refine G_iconst F (v := (0 : Int32)) dX7_trainIs_124 (by decide) ?_
      obtain ⟨v26, e_v26, h⟩ := bnd h
      refine G_callSv F (As := [.inl a1, .inl (0 : Int32)]) (st := [.inr v25]) (metX7_at X e_v26) (lw_S q1555 q1556 q109 q1557) hdfX7_at ⟨by omega, by decide⟩ rfl (Nat.le_of_ble_eq_true rfl) ⟨by omega, by omega⟩ dX7_trainIs_125 ?_
      obtain ⟨v27, e_v27, h⟩ := bnd h
      refine G_iald F dX7_trainIs_128 e_v27 ?_
      cases h
      exact G_iret F rfl (Nat.le_refl _) (Nat.le_refl _) rfl dX7_trainIs_129
    have h := itf c24 h
    by_cases c28 : a2 = (6 : Int32)
    · have h := itt c28 h
      refine G_tabIn F (tgt := 130) dX7_trainIs_26 (by rw [c28]; decide) (by rw [c28]; decide) (by rw [c28]; rfl) (by decide) ?_
      refine G_aload_n F dX7_trainIs_130 rfl ?_
      obtain ⟨v29, e_v29, h⟩ := bnd h
      refine G_getR F okX7 (f := 8) (by decide) q1232 rfl dX7_trainIs_131 e_v29 ?_
      refine G_iload_n F dX7_trainIs_134 rfl ?_
      refine G_iload_n F dX7_trainIs_135 rfl ?_
      obtain ⟨v30, e_v30, h⟩ := bnd h
      refine G_callSv F (As := [.inl a1, .inl (v5 - (1 : Int32))]) (st := [.inr v29]) (metX7_at X e_v30) (lw_S q1555 q1556 q109 q1557) hdfX7_at ⟨by omega, by decide⟩ rfl (Nat.le_of_ble_eq_true rfl) ⟨by omega, by omega⟩ dX7_trainIs_136 ?_
      obtain ⟨v31, e_v31, h⟩ := bnd h
      refine G_iald F dX7_trainIs_139 e_v31 ?_
      cases h
      exact G_iret F rfl (Nat.le_refl _) (Nat.le_refl _) rfl dX7_trainIs_140
    have h := itf c28 h
    refine G_tabDef F (tgt := 141) dX7_trainIs_26 [(0 : Int32), (1 : Int32), (2 : Int32), (3 : Int32), (4 : Int32), (5 : Int32), (6 : Int32)] (by decide) (by decide) (List.forall_mem_cons.mpr ⟨c6, List.forall_mem_cons.mpr ⟨c9, List.forall_mem_cons.mpr ⟨c13, List.forall_mem_cons.mpr ⟨c16, List.forall_mem_cons.mpr ⟨c20, List.forall_mem_cons.mpr ⟨c24, List.forall_mem_cons.mpr ⟨c28, fa_nil⟩⟩⟩⟩⟩⟩⟩) (by decide) ?_
    refine G_iconst F (v := (-1 : Int32)) dX7_trainIs_141 (by decide) ?_
    cases h
    exact G_iret F rfl (Nat.le_refl _) (Nat.le_refl _) rfl dX7_trainIs_142
  · have h := itt c3 h
    refine G_iconst F (v := (-1 : Int32)) dX7_trainIs_14 (by decide) ?_
    cases h
    exact G_iret F rfl (Nat.le_refl _) (Nat.le_refl _) rfl dX7_trainIs_15

theorem metX7_stopIs (X : Gx) {m : Hp} {nx : Nat} {a0 : Option Nat} {a1 : Int32} {a2 : Int32} {a3 : Int32} {rv : Int32} (h : fX7_stopIs m a0 a1 a2 a3 = some rv) : Con X (2) yX7_stopIs cX7_stopIs 4 ((Option.some FieldType.int)) [.inr a0, .inl a1, .inl a2, .inl a3] m nx (some (.inl rv)) m 0 0 := by
  refine Con.of (own := RX7) (nm := "stopIs") (L := [some (.inr a0), some (.inl a1), some (.inl a2), some (.inl a3)]) (by decide +kernel) rfl rfl (Nat.le_of_ble_eq_true rfl) (ent_of 0 rfl) ?_
  intro cx F
  refine G_iload_n F dX7_stopIs_0 rfl ?_
  refine G_iconst F (v := (0 : Int32)) dX7_stopIs_1 (by decide) ?_
  refine G_aload_n F dX7_stopIs_2 rfl ?_
  obtain ⟨v1, e_v1, h⟩ := bnd h
  refine G_getI F okX7 (f := 14) (by decide) q1238 rfl dX7_stopIs_3 e_v1 ?_
  refine G_iconst F (v := (1 : Int32)) dX7_stopIs_6 (by decide) ?_
  refine G_isub F dX7_stopIs_7 ?_
  obtain ⟨v2, e_v2, h⟩ := bnd h
  refine G_callSv F (As := [.inl a1, .inl (0 : Int32), .inl (v1 - (1 : Int32))]) (st := []) (metX7_in X e_v2) (lw_S q1427 q1428 q109 q1429) hdfX7_in ⟨by omega, by decide⟩ rfl (Nat.le_of_ble_eq_true rfl) ⟨by omega, by omega⟩ dX7_stopIs_8 ?_
  refine G_if_eq F (tgt := 39) dX7_stopIs_11 (by decide) (fun c3 => ?_) (fun c3 => ?_)
  · have h := itt c3 h
    refine G_iconst F (v := (-1 : Int32)) dX7_stopIs_39 (by decide) ?_
    cases h
    exact G_iret F rfl (Nat.le_refl _) (Nat.le_refl _) rfl dX7_stopIs_40
  · have h := itf c3 h
    refine G_iload_n F dX7_stopIs_14 rfl ?_
    refine G_iconst F (v := (0 : Int32)) dX7_stopIs_15 (by decide) ?_
    refine G_aload_n F dX7_stopIs_16 rfl ?_
    obtain ⟨v4, e_v4, h⟩ := bnd h
    refine G_getR F okX7 (f := 6) (by decide) q1230 rfl dX7_stopIs_17 e_v4 ?_
    refine G_iload_n F dX7_stopIs_20 rfl ?_
    obtain ⟨v5, e_v5, h⟩ := bnd h
    refine G_iald F dX7_stopIs_21 e_v5 ?_
    refine G_iconst F (v := (1 : Int32)) dX7_stopIs_22 (by decide) ?_
    refine G_isub F dX7_stopIs_23 ?_
    obtain ⟨v6, e_v6, h⟩ := bnd h
    refine G_callSv F (As := [.inl a2, .inl (0 : Int32), .inl (v5 - (1 : Int32))]) (st := []) (metX7_in X e_v6) (lw_S q1427 q1428 q109 q1429) hdfX7_in ⟨by omega, by decide⟩ rfl (Nat.le_of_ble_eq_true rfl) ⟨by omega, by omega⟩ dX7_stopIs_24 ?_
    refine G_if_eq F (tgt := 39) dX7_stopIs_27 (by decide) (fun c7 => ?_) (fun c7 => ?_)
    · have h := itt c7 h
      refine G_iconst F (v := (-1 : Int32)) dX7_stopIs_39 (by decide) ?_
      cases h
      exact G_iret F rfl (Nat.le_refl _) (Nat.le_refl _) rfl dX7_stopIs_40
    · have h := itf c7 h
      refine G_iload_n F dX7_stopIs_30 rfl ?_
      refine G_iconst F (v := (0 : Int32)) dX7_stopIs_31 (by decide) ?_
      refine G_iconst F (v := (1 : Int32)) dX7_stopIs_32 (by decide) ?_
      obtain ⟨v8, e_v8, h⟩ := bnd h
      refine G_callSv F (As := [.inl a3, .inl (0 : Int32), .inl (1 : Int32)]) (st := []) (metX7_in X e_v8) (lw_S q1427 q1428 q109 q1429) hdfX7_in ⟨by omega, by decide⟩ rfl (Nat.le_of_ble_eq_true rfl) ⟨by omega, by omega⟩ dX7_stopIs_33 ?_
      refine G_if_ne F (tgt := 41) dX7_stopIs_36 (by decide) (fun c9 => ?_) (fun c9 => ?_)
      · have h := itf c9 h
        refine G_iload_n F dX7_stopIs_41 rfl ?_
        refine G_if_ne F (tgt := 58) dX7_stopIs_42 (by decide) (fun c10 => ?_) (fun c10 => ?_)
        · have h := itf c10 h
          refine G_aload_n F dX7_stopIs_58 rfl ?_
          obtain ⟨v11, e_v11, h⟩ := bnd h
          refine G_getR F okX7 (f := 8) (by decide) q1232 rfl dX7_stopIs_59 e_v11 ?_
          refine G_iload_n F dX7_stopIs_62 rfl ?_
          refine G_iload_n F dX7_stopIs_63 rfl ?_
          obtain ⟨v12, e_v12, h⟩ := bnd h
          refine G_callSv F (As := [.inl a1, .inl a2]) (st := [.inr v11]) (metX7_at X e_v12) (lw_S q1555 q1556 q109 q1557) hdfX7_at ⟨by omega, by decide⟩ rfl (Nat.le_of_ble_eq_true rfl) ⟨by omega, by omega⟩ dX7_stopIs_64 ?_
          obtain ⟨v13, e_v13, h⟩ := bnd h
          refine G_iald F dX7_stopIs_67 e_v13 ?_
          cases h
          exact G_iret F rfl (Nat.le_refl _) (Nat.le_refl _) rfl dX7_stopIs_68
        · have h := itt c10 h
          refine G_aload_n F dX7_stopIs_45 rfl ?_
          obtain ⟨v14, e_v14, h⟩ := bnd h
          refine G_getR F okX7 (f := 7) (by decide) q1231 rfl dX7_stopIs_46 e_v14 ?_
          refine G_iload_n F dX7_stopIs_49 rfl ?_
          refine G_iload_n F dX7_stopIs_50 rfl ?_
          obtain ⟨v15, e_v15, h⟩ := bnd h
          refine G_callSv F (As := [.inl a1, .inl a2]) (st := [.inr v14]) (metX7_at X e_v15) (lw_S q1555 q1556 q109 q1557) hdfX7_at ⟨by omega, by decide⟩ rfl (Nat.le_of_ble_eq_true rfl) ⟨by omega, by omega⟩ dX7_stopIs_51 ?_
          obtain ⟨v16, e_v16, h⟩ := bnd h
          refine G_iald F dX7_stopIs_54 e_v16 ?_
          refine G_goto F (tgt := 68) dX7_stopIs_55 (by decide) ?_
          cases h
          exact G_iret F rfl (Nat.le_refl _) (Nat.le_refl _) rfl dX7_stopIs_68
      · have h := itt c9 h
        refine G_iconst F (v := (-1 : Int32)) dX7_stopIs_39 (by decide) ?_
        cases h
        exact G_iret F rfl (Nat.le_refl _) (Nat.le_refl _) rfl dX7_stopIs_40

theorem metX7_oneRideMore (X : Gx) {m : Hp} {nx : Nat} {a0 : Option Nat} {a1 : Int32} {m_ : Hp} (h : fX7_oneRideMore m a0 a1 = some m_) : Con X (3) yX7_oneRideMore cX7_oneRideMore 6 ((none : Option FieldType)) [.inr a0, .inl a1] m nx none m_ 0 0 := by
  refine Con.of (own := RX7) (nm := "oneRideMore") (L := [some (.inr a0), some (.inl a1), none, none, none, none]) (by decide +kernel) rfl rfl (Nat.le_of_ble_eq_true rfl) (ent_of 4 rfl) ?_
  intro cx F
  refine G_iconst F (v := (0 : Int32)) dX7_oneRideMore_0 (by decide) ?_
  refine G_istore_n F (L2 := [some (.inr a0), some (.inl a1), some (.inl (0 : Int32)), none, none, none]) dX7_oneRideMore_1 (by decide) rfl ?_
  obtain ⟨r1, hr1, h⟩ := bnd h
  have KE1 : ∀ (m7 : Hp), m7 = r1 → G X cx 6 (Qm X cx none m_ nx 0 0) (0) (0) m7 (nx) [some (.inr a0), some (.inl a1), none, none, none, none] [] 26 := by
    intro m7 hq
    subst hq
    try dsimp only at h
    refine G_iconst F (v := (0 : Int32)) dX7_oneRideMore_26 (by decide) ?_
    refine G_istore_n F (L2 := [some (.inr a0), some (.inl a1), some (.inl (0 : Int32)), none, none, none]) dX7_oneRideMore_27 (by decide) rfl ?_
    obtain ⟨r8, hr8, h⟩ := bnd h
    have KE8 : ∀ (m38 : Hp), m38 = r8 → G X cx 6 (Qm X cx none m_ nx 0 0) (0) (0) m38 (nx) [some (.inr a0), none, none, none, none, none] [] 142 := by
      intro m38 hq
      subst hq
      try dsimp only at h
      refine G_iconst F (v := (0 : Int32)) dX7_oneRideMore_142 (by decide) ?_
      refine G_istore_n F (L2 := [some (.inr a0), none, some (.inl (0 : Int32)), none, none, none]) dX7_oneRideMore_143 (by decide) rfl ?_
      obtain ⟨r39, hr39, h⟩ := bnd h
      have KE39 : ∀ (m45 : Hp), m45 = r39 → G X cx 6 (Qm X cx none m_ nx 0 0) (0) (0) m45 (nx) [none, none, none, none, none, none] [] 168 := by
        intro m45 hq
        subst hq
        try dsimp only at h
        cases h
        exact G_vret F rfl (Nat.le_refl _) (Nat.le_refl _) rfl dX7_oneRideMore_168
      have KB39 : ∀ s o39, fX7_oneRideMore_L144 a0 s = some o39 → (∀ s', o39 = Sum.inl s' → (fun (s : (Int32 × Hp)) => match s with | (s2_39, m39) => G X cx 6 (Qm X cx none m_ nx 0 0) (0) (0) m39 (nx) [some (.inr a0), none, some (.inl s2_39), none, none, none] [] 144) s') → (∀ q, o39 = Sum.inr q → q = r39) → (fun (s : (Int32 × Hp)) => match s with | (s2_39, m39) => G X cx 6 (Qm X cx none m_ nx 0 0) (0) (0) m39 (nx) [some (.inr a0), none, some (.inl s2_39), none, none, none] [] 144) s := by
        intro s o39 h hP39 hE39
        obtain ⟨s2_39, m39⟩ := s
        try dsimp only at hP39 hE39 ⊢
        refine G_iload_n F dX7_oneRideMore_144 rfl ?_
        refine G_bipush F (v := (10 : Int32)) dX7_oneRideMore_145 (by decide) ?_
        refine G_icmp_ge F (tgt := 168) dX7_oneRideMore_147 (by decide) (fun c40 => ?_) (fun c40 => ?_)
        · have h := itt c40 h
          cases h
          exact G_sub F (L2 := [none, none, none, none, none, none]) trivial (KE39 _ (hE39 _ rfl))
        · have h := itf c40 h
          refine G_aload_n F dX7_oneRideMore_150 rfl ?_
          obtain ⟨v41, e_v41, h⟩ := bnd h
          refine G_getR F okX7 (f := 55) (by decide) q1279 rfl dX7_oneRideMore_151 e_v41 ?_
          refine G_iload_n F dX7_oneRideMore_154 rfl ?_
          refine G_aload_n F dX7_oneRideMore_155 rfl ?_
          obtain ⟨v42, e_v42, h⟩ := bnd h
          refine G_getR F okX7 (f := 56) (by decide) q1280 rfl dX7_oneRideMore_156 e_v42 ?_
          refine G_iload_n F dX7_oneRideMore_159 rfl ?_
          obtain ⟨v43, e_v43, h⟩ := bnd h
          refine G_iald F dX7_oneRideMore_160 e_v43 ?_
          obtain ⟨m44, e_m44, h⟩ := bnd h
          refine G_iast F dX7_oneRideMore_161 e_m44 ?_
          refine G_iinc F (v := (s2_39 + (1 : Int32))) (L2 := [some (.inr a0), none, some (.inl (s2_39 + (1 : Int32))), none, none, none]) dX7_oneRideMore_162 (by decide) rfl rfl rfl ?_
          refine G_goto F (tgt := 144) dX7_oneRideMore_165 (by decide) ?_
          cases h
          exact G_sub F (L2 := [some (.inr a0), none, some (.inl (s2_39 + (1 : Int32))), none, none, none]) ⟨rfl, ⟨rfl, trivial⟩⟩ (hP39 _ rfl)
      have hI := iter_ok (fun (s : (Int32 × Hp)) => match s with | (s2_39, m39) => G X cx 6 (Qm X cx none m_ nx 0 0) (0) (0) m39 (nx) [some (.inr a0), none, some (.inl s2_39), none, none, none] [] 144) (fun q => q = r39) KB39 _ _ _ hr39 rfl
      exact G_sub F (L2 := [some (.inr a0), none, some (.inl (0 : Int32)), none, none, none]) ⟨rfl, ⟨rfl, trivial⟩⟩ hI
    have KB8 : ∀ s o8, fX7_oneRideMore_L28 a0 a1 s = some o8 → (∀ s', o8 = Sum.inl s' → (fun (s : (Int32 × Hp)) => match s with | (s2_8, m8) => G X cx 6 (Qm X cx none m_ nx 0 0) (0) (0) m8 (nx) [some (.inr a0), some (.inl a1), some (.inl s2_8), none, none, none] [] 28) s') → (∀ q, o8 = Sum.inr q → q = r8) → (fun (s : (Int32 × Hp)) => match s with | (s2_8, m8) => G X cx 6 (Qm X cx none m_ nx 0 0) (0) (0) m8 (nx) [some (.inr a0), some (.inl a1), some (.inl s2_8), none, none, none] [] 28) s := by
      intro s o8 h hP8 hE8
      obtain ⟨s2_8, m8⟩ := s
      try dsimp only at hP8 hE8 ⊢
      refine G_iload_n F dX7_oneRideMore_28 rfl ?_
      refine G_aload_n F dX7_oneRideMore_29 rfl ?_
      obtain ⟨v9, e_v9, h⟩ := bnd h
      refine G_getI F okX7 (f := 14) (by decide) q1238 rfl dX7_oneRideMore_30 e_v9 ?_
      refine G_icmp_ge F (tgt := 142) dX7_oneRideMore_33 (by decide) (fun c10 => ?_) (fun c10 => ?_)
      · have h := itt c10 h
        cases h
        exact G_sub F (L2 := [some (.inr a0), none, none, none, none, none]) ⟨rfl, trivial⟩ (KE8 _ (hE8 _ rfl))
      · have h := itf c10 h
        refine G_iconst F (v := (0 : Int32)) dX7_oneRideMore_36 (by decide) ?_
        refine G_istore_n F (L2 := [some (.inr a0), some (.inl a1), some (.inl s2_8), some (.inl (0 : Int32)), none, none]) dX7_oneRideMore_37 (by decide) rfl ?_
        refine G_iconst F (v := (0 : Int32)) dX7_oneRideMore_38 (by decide) ?_
        refine G_istore F (L2 := [some (.inr a0), some (.inl a1), some (.inl s2_8), some (.inl (0 : Int32)), some (.inl (0 : Int32)), none]) dX7_oneRideMore_39 (by decide) rfl ?_
        obtain ⟨r11, hr11, h⟩ := bnd h
        have KE11 : ∀ (m37 : Hp), m37 = r11 → G X cx 6 (Qm X cx none m_ nx 0 0) (0) (0) m37 (nx) [some (.inr a0), some (.inl a1), some (.inl s2_8), none, none, none] [] 136 := by
          intro m37 hq
          subst hq
          try dsimp only at h
          refine G_iinc F (v := (s2_8 + (1 : Int32))) (L2 := [some (.inr a0), some (.inl a1), some (.inl (s2_8 + (1 : Int32))), none, none, none]) dX7_oneRideMore_136 (by decide) rfl rfl rfl ?_
          refine G_goto F (tgt := 28) dX7_oneRideMore_139 (by decide) ?_
          cases h
          exact G_sub F (L2 := [some (.inr a0), some (.inl a1), some (.inl (s2_8 + (1 : Int32))), none, none, none]) ⟨rfl, ⟨rfl, ⟨rfl, trivial⟩⟩⟩ (hP8 _ rfl)
        have KB11 : ∀ s o11, fX7_oneRideMore_L41 a0 a1 s2_8 s = some o11 → (∀ s', o11 = Sum.inl s' → (fun (s : (Int32 × Int32 × Hp)) => match s with | (s3_11, s4_11, m11) => G X cx 6 (Qm X cx none m_ nx 0 0) (0) (0) m11 (nx) [some (.inr a0), some (.inl a1), some (.inl s2_8), some (.inl s3_11), some (.inl s4_11), none] [] 41) s') → (∀ q, o11 = Sum.inr q → q = r11) → (fun (s : (Int32 × Int32 × Hp)) => match s with | (s3_11, s4_11, m11) => G X cx 6 (Qm X cx none m_ nx 0 0) (0) (0) m11 (nx) [some (.inr a0), some (.inl a1), some (.inl s2_8), some (.inl s3_11), some (.inl s4_11), none] [] 41) s := by
          intro s o11 h hP11 hE11
          obtain ⟨s3_11, s4_11, m11⟩ := s
          try dsimp only at hP11 hE11 ⊢
          refine G_iload F dX7_oneRideMore_41 rfl ?_
          refine G_aload_n F dX7_oneRideMore_43 rfl ?_
          obtain ⟨v12, e_v12, h⟩ := bnd h
          refine G_getR F okX7 (f := 6) (by decide) q1230 rfl dX7_oneRideMore_44 e_v12 ?_
          refine G_iload_n F dX7_oneRideMore_47 rfl ?_
          obtain ⟨v13, e_v13, h⟩ := bnd h
          refine G_iald F dX7_oneRideMore_48 e_v13 ?_
          refine G_icmp_ge F (tgt := 136) dX7_oneRideMore_49 (by decide) (fun c14 => ?_) (fun c14 => ?_)
          · have h := itt c14 h
            cases h
            exact G_sub F (L2 := [some (.inr a0), some (.inl a1), some (.inl s2_8), none, none, none]) ⟨rfl, ⟨rfl, ⟨rfl, trivial⟩⟩⟩ (KE11 _ (hE11 _ rfl))
          · have h := itf c14 h
            refine G_aload_n F dX7_oneRideMore_52 rfl ?_
            refine G_iload_n F dX7_oneRideMore_53 rfl ?_
            obtain ⟨v15, e_v15, h⟩ := bnd h
            obtain ⟨hc_v15, e_v15⟩ := hp_on_of e_v15
            refine G_callVv F (As := [.inl s2_8]) (st := []) (metX7_runs X e_v15) hc_v15 rfl rfl (lw_V q1582 q1584 qs71 q109 q1585) hdfX7_runs ⟨by omega, by decide⟩ rfl (Nat.le_of_ble_eq_true rfl) ⟨by omega, by omega⟩ dX7_oneRideMore_54 ?_
            refine G_if_eq F (tgt := 136) dX7_oneRideMore_57 (by decide) (fun c16 => ?_) (fun c16 => ?_)
            · have h := itt c16 h
              cases h
              exact G_sub F (L2 := [some (.inr a0), some (.inl a1), some (.inl s2_8), none, none, none]) ⟨rfl, ⟨rfl, ⟨rfl, trivial⟩⟩⟩ (KE11 _ (hE11 _ rfl))
            · have h := itf c16 h
              refine G_aload_n F dX7_oneRideMore_60 rfl ?_
              obtain ⟨v17, e_v17, h⟩ := bnd h
              refine G_getR F okX7 (f := 7) (by decide) q1231 rfl dX7_oneRideMore_61 e_v17 ?_
              refine G_iload_n F dX7_oneRideMore_64 rfl ?_
              refine G_iload F dX7_oneRideMore_65 rfl ?_
              obtain ⟨v18, e_v18, h⟩ := bnd h
              refine G_callSv F (As := [.inl s2_8, .inl s4_11]) (st := [.inr v17]) (metX7_at X e_v18) (lw_S q1555 q1556 q109 q1557) hdfX7_at ⟨by omega, by decide⟩ rfl (Nat.le_of_ble_eq_true rfl) ⟨by omega, by omega⟩ dX7_oneRideMore_67 ?_
              obtain ⟨v19, e_v19, h⟩ := bnd h
              refine G_iald F dX7_oneRideMore_70 e_v19 ?_
              refine G_istore F (L2 := [some (.inr a0), some (.inl a1), some (.inl s2_8), some (.inl s3_11), some (.inl s4_11), some (.inl v19)]) dX7_oneRideMore_71 (by decide) rfl ?_
              refine G_iload_n F dX7_oneRideMore_73 rfl ?_
              obtain ⟨p21, hp21, h⟩ := bnd h
              have K21 : ∀ (m20 : Hp), m20 = p21 → G X cx 6 (Qm X cx none m_ nx 0 0) (0) (0) m20 (nx) [some (.inr a0), some (.inl a1), some (.inl s2_8), some (.inl s3_11), some (.inl s4_11), some (.inl v19)] [] 105 := by
                intro m20 hq
                subst hq
                try dsimp only at h
                refine G_aload_n F dX7_oneRideMore_105 rfl ?_
                obtain ⟨v22, e_v22, h⟩ := bnd h
                refine G_getR F okX7 (f := 55) (by decide) q1279 rfl dX7_oneRideMore_106 e_v22 ?_
                refine G_iload F dX7_oneRideMore_109 rfl ?_
                obtain ⟨v23, e_v23, h⟩ := bnd h
                refine G_iald F dX7_oneRideMore_111 e_v23 ?_
                refine G_iload_n F dX7_oneRideMore_112 rfl ?_
                refine G_iadd F dX7_oneRideMore_113 ?_
                refine G_aload_n F dX7_oneRideMore_114 rfl ?_
                obtain ⟨v24, e_v24, h⟩ := bnd h
                refine G_getR F okX7 (f := 8) (by decide) q1232 rfl dX7_oneRideMore_115 e_v24 ?_
                refine G_iload_n F dX7_oneRideMore_118 rfl ?_
                refine G_iload F dX7_oneRideMore_119 rfl ?_
                obtain ⟨v25, e_v25, h⟩ := bnd h
                refine G_callSv F (As := [.inl s2_8, .inl s4_11]) (st := [.inr v24, .inl (v23 + a1)]) (metX7_at X e_v25) (lw_S q1555 q1556 q109 q1557) hdfX7_at ⟨by omega, by decide⟩ rfl (Nat.le_of_ble_eq_true rfl) ⟨by omega, by omega⟩ dX7_oneRideMore_121 ?_
                obtain ⟨v26, e_v26, h⟩ := bnd h
                refine G_iald F dX7_oneRideMore_124 e_v26 ?_
                refine G_icmp_gt F (tgt := 130) dX7_oneRideMore_125 (by decide) (fun c27 => ?_) (fun c27 => ?_)
                · have h := itt c27 h
                  refine G_iinc F (v := (s4_11 + (1 : Int32))) (L2 := [some (.inr a0), some (.inl a1), some (.inl s2_8), some (.inl s3_11), some (.inl (s4_11 + (1 : Int32))), some (.inl v19)]) dX7_oneRideMore_130 (by decide) rfl rfl rfl ?_
                  refine G_goto F (tgt := 41) dX7_oneRideMore_133 (by decide) ?_
                  cases h
                  exact G_sub F (L2 := [some (.inr a0), some (.inl a1), some (.inl s2_8), some (.inl s3_11), some (.inl (s4_11 + (1 : Int32))), none]) ⟨rfl, ⟨rfl, ⟨rfl, ⟨rfl, ⟨rfl, trivial⟩⟩⟩⟩⟩ (hP11 _ rfl)
                · have h := itf c27 h
                  refine G_iconst F (v := (1 : Int32)) dX7_oneRideMore_128 (by decide) ?_
                  refine G_istore_n F (L2 := [some (.inr a0), some (.inl a1), some (.inl s2_8), some (.inl (1 : Int32)), some (.inl s4_11), some (.inl v19)]) dX7_oneRideMore_129 (by decide) rfl ?_
                  refine G_iinc F (v := (s4_11 + (1 : Int32))) (L2 := [some (.inr a0), some (.inl a1), some (.inl s2_8), some (.inl (1 : Int32)), some (.inl (s4_11 + (1 : Int32))), some (.inl v19)]) dX7_oneRideMore_130 (by decide) rfl rfl rfl ?_
                  refine G_goto F (tgt := 41) dX7_oneRideMore_133 (by decide) ?_
                  cases h
                  exact G_sub F (L2 := [some (.inr a0), some (.inl a1), some (.inl s2_8), some (.inl (1 : Int32)), some (.inl (s4_11 + (1 : Int32))), none]) ⟨rfl, ⟨rfl, ⟨rfl, ⟨rfl, ⟨rfl, trivial⟩⟩⟩⟩⟩ (hP11 _ rfl)
              have h := hp21
              clear hp21
              refine G_if_eq F (tgt := 105) dX7_oneRideMore_74 (by decide) (fun c28 => ?_) (fun c28 => ?_)
              · have h := itt c28 h
                have hq_ := Option.some.inj h
                exact G_sub F (L2 := [some (.inr a0), some (.inl a1), some (.inl s2_8), some (.inl s3_11), some (.inl s4_11), some (.inl v19)]) ⟨rfl, ⟨rfl, ⟨rfl, ⟨rfl, ⟨rfl, ⟨rfl, trivial⟩⟩⟩⟩⟩⟩ (K21 _ hq_)
              · have h := itf c28 h
                refine G_aload_n F dX7_oneRideMore_77 rfl ?_
                obtain ⟨v29, e_v29, h⟩ := bnd h
                refine G_getR F okX7 (f := 56) (by decide) q1280 rfl dX7_oneRideMore_78 e_v29 ?_
                refine G_iload F dX7_oneRideMore_81 rfl ?_
                refine G_aload_n F dX7_oneRideMore_83 rfl ?_
                obtain ⟨v30, e_v30, h⟩ := bnd h
                refine G_getR F okX7 (f := 56) (by decide) q1280 rfl dX7_oneRideMore_84 e_v30 ?_
                refine G_iload F dX7_oneRideMore_87 rfl ?_
                obtain ⟨v31, e_v31, h⟩ := bnd h
                refine G_iald F dX7_oneRideMore_89 e_v31 ?_
                refine G_aload_n F dX7_oneRideMore_90 rfl ?_
                obtain ⟨v32, e_v32, h⟩ := bnd h
                refine G_getR F okX7 (f := 8) (by decide) q1232 rfl dX7_oneRideMore_91 e_v32 ?_
                refine G_iload_n F dX7_oneRideMore_94 rfl ?_
                refine G_iload F dX7_oneRideMore_95 rfl ?_
                obtain ⟨v33, e_v33, h⟩ := bnd h
                refine G_callSv F (As := [.inl s2_8, .inl s4_11]) (st := [.inr v32, .inl v31, .inl v19, .inr v29]) (metX7_at X e_v33) (lw_S q1555 q1556 q109 q1557) hdfX7_at ⟨by omega, by decide⟩ rfl (Nat.le_of_ble_eq_true rfl) ⟨by omega, by omega⟩ dX7_oneRideMore_97 ?_
                obtain ⟨v34, e_v34, h⟩ := bnd h
                refine G_iald F dX7_oneRideMore_100 e_v34 ?_
                obtain ⟨v35, e_v35, h⟩ := bnd h
                refine G_callSv F (As := [.inl v31, .inl v34]) (st := [.inl v19, .inr v29]) (metX7_min X e_v35) (lw_S q1610 q1611 q109 q1612) hdfX7_min ⟨by omega, by decide⟩ rfl (Nat.le_of_ble_eq_true rfl) ⟨by omega, by omega⟩ dX7_oneRideMore_101 ?_
                obtain ⟨m36, e_m36, h⟩ := bnd h
                refine G_iast F dX7_oneRideMore_104 e_m36 ?_
                have hq_ := Option.some.inj h
                exact G_sub F (L2 := [some (.inr a0), some (.inl a1), some (.inl s2_8), some (.inl s3_11), some (.inl s4_11), some (.inl v19)]) ⟨rfl, ⟨rfl, ⟨rfl, ⟨rfl, ⟨rfl, ⟨rfl, trivial⟩⟩⟩⟩⟩⟩ (K21 _ hq_)
        have hI := iter_ok (fun (s : (Int32 × Int32 × Hp)) => match s with | (s3_11, s4_11, m11) => G X cx 6 (Qm X cx none m_ nx 0 0) (0) (0) m11 (nx) [some (.inr a0), some (.inl a1), some (.inl s2_8), some (.inl s3_11), some (.inl s4_11), none] [] 41) (fun q => q = r11) KB11 _ _ _ hr11 rfl
        exact G_sub F (L2 := [some (.inr a0), some (.inl a1), some (.inl s2_8), some (.inl (0 : Int32)), some (.inl (0 : Int32)), none]) ⟨rfl, ⟨rfl, ⟨rfl, ⟨rfl, ⟨rfl, trivial⟩⟩⟩⟩⟩ hI
    have hI := iter_ok (fun (s : (Int32 × Hp)) => match s with | (s2_8, m8) => G X cx 6 (Qm X cx none m_ nx 0 0) (0) (0) m8 (nx) [some (.inr a0), some (.inl a1), some (.inl s2_8), none, none, none] [] 28) (fun q => q = r8) KB8 _ _ _ hr8 rfl
    exact G_sub F (L2 := [some (.inr a0), some (.inl a1), some (.inl (0 : Int32)), none, none, none]) ⟨rfl, ⟨rfl, ⟨rfl, trivial⟩⟩⟩ hI
  have KB1 : ∀ s o1, fX7_oneRideMore_L2 a0 a1 s = some o1 → (∀ s', o1 = Sum.inl s' → (fun (s : (Int32 × Hp)) => match s with | (s2_1, m1) => G X cx 6 (Qm X cx none m_ nx 0 0) (0) (0) m1 (nx) [some (.inr a0), some (.inl a1), some (.inl s2_1), none, none, none] [] 2) s') → (∀ q, o1 = Sum.inr q → q = r1) → (fun (s : (Int32 × Hp)) => match s with | (s2_1, m1) => G X cx 6 (Qm X cx none m_ nx 0 0) (0) (0) m1 (nx) [some (.inr a0), some (.inl a1), some (.inl s2_1), none, none, none] [] 2) s := by
    intro s o1 h hP1 hE1
    obtain ⟨s2_1, m1⟩ := s
    try dsimp only at hP1 hE1 ⊢
    refine G_iload_n F dX7_oneRideMore_2 rfl ?_
    refine G_bipush F (v := (10 : Int32)) dX7_oneRideMore_3 (by decide) ?_
    refine G_icmp_ge F (tgt := 26) dX7_oneRideMore_5 (by decide) (fun c2 => ?_) (fun c2 => ?_)
    · have h := itt c2 h
      cases h
      exact G_sub F (L2 := [some (.inr a0), some (.inl a1), none, none, none, none]) ⟨rfl, ⟨rfl, trivial⟩⟩ (KE1 _ (hE1 _ rfl))
    · have h := itf c2 h
      refine G_aload_n F dX7_oneRideMore_8 rfl ?_
      obtain ⟨v3, e_v3, h⟩ := bnd h
      refine G_getR F okX7 (f := 56) (by decide) q1280 rfl dX7_oneRideMore_9 e_v3 ?_
      refine G_iload_n F dX7_oneRideMore_12 rfl ?_
      refine G_aload_n F dX7_oneRideMore_13 rfl ?_
      obtain ⟨v4, e_v4, h⟩ := bnd h
      refine G_getR F okX7 (f := 55) (by decide) q1279 rfl dX7_oneRideMore_14 e_v4 ?_
      refine G_iload_n F dX7_oneRideMore_17 rfl ?_
      obtain ⟨v5, e_v5, h⟩ := bnd h
      refine G_iald F dX7_oneRideMore_18 e_v5 ?_
      obtain ⟨m6, e_m6, h⟩ := bnd h
      refine G_iast F dX7_oneRideMore_19 e_m6 ?_
      refine G_iinc F (v := (s2_1 + (1 : Int32))) (L2 := [some (.inr a0), some (.inl a1), some (.inl (s2_1 + (1 : Int32))), none, none, none]) dX7_oneRideMore_20 (by decide) rfl rfl rfl ?_
      refine G_goto F (tgt := 2) dX7_oneRideMore_23 (by decide) ?_
      cases h
      exact G_sub F (L2 := [some (.inr a0), some (.inl a1), some (.inl (s2_1 + (1 : Int32))), none, none, none]) ⟨rfl, ⟨rfl, ⟨rfl, trivial⟩⟩⟩ (hP1 _ rfl)
  have hI := iter_ok (fun (s : (Int32 × Hp)) => match s with | (s2_1, m1) => G X cx 6 (Qm X cx none m_ nx 0 0) (0) (0) m1 (nx) [some (.inr a0), some (.inl a1), some (.inl s2_1), none, none, none] [] 2) (fun q => q = r1) KB1 _ _ _ hr1 rfl
  exact G_sub F (L2 := [some (.inr a0), some (.inl a1), some (.inl (0 : Int32)), none, none, none]) ⟨rfl, ⟨rfl, ⟨rfl, trivial⟩⟩⟩ hI

theorem metX7_beginsAt (X : Gx) {m : Hp} {nx : Nat} {a0 : Option Nat} {a1 : Int32} {a2 : Int32} {m_ : Hp} (h : fX7_beginsAt m a0 a1 a2 = some m_) : Con X (4) yX7_beginsAt cX7_beginsAt 4 ((none : Option FieldType)) [.inr a0, .inl a1, .inl a2] m nx none m_ 0 0 := by
  refine Con.of (own := RX7) (nm := "beginsAt") (L := [some (.inr a0), some (.inl a1), some (.inl a2), none]) (by decide +kernel) rfl rfl (Nat.le_of_ble_eq_true rfl) (ent_of 1 rfl) ?_
  intro cx F
  refine G_iconst F (v := (0 : Int32)) dX7_beginsAt_0 (by decide) ?_
  refine G_istore_n F (L2 := [some (.inr a0), some (.inl a1), some (.inl a2), some (.inl (0 : Int32))]) dX7_beginsAt_1 (by decide) rfl ?_
  obtain ⟨r1, hr1, h⟩ := bnd h
  have KE1 : ∀ (m5 : Hp), m5 = r1 → G X cx 4 (Qm X cx none m_ nx 0 0) (0) (0) m5 (nx) [some (.inr a0), some (.inl a1), some (.inl a2), none] [] 23 := by
    intro m5 hq
    subst hq
    try dsimp only at h
    refine G_aload_n F dX7_beginsAt_23 rfl ?_
    obtain ⟨v6, e_v6, h⟩ := bnd h
    refine G_getR F okX7 (f := 55) (by decide) q1279 rfl dX7_beginsAt_24 e_v6 ?_
    refine G_iload_n F dX7_beginsAt_27 rfl ?_
    refine G_iload_n F dX7_beginsAt_28 rfl ?_
    obtain ⟨m7, e_m7, h⟩ := bnd h
    refine G_iast F dX7_beginsAt_29 e_m7 ?_
    refine G_aload_n F dX7_beginsAt_30 rfl ?_
    refine G_iconst F (v := (0 : Int32)) dX7_beginsAt_31 (by decide) ?_
    obtain ⟨m8, e_m8, h⟩ := bnd h
    obtain ⟨hc_m8, e_m8⟩ := hp_on_of e_m8
    refine G_callV0 F (As := [.inl (0 : Int32)]) (st := []) (metX7_oneRideMore X e_m8) hc_m8 rfl rfl (lw_V q1668 q1670 qs84 q109 q1671) hdfX7_oneRideMore ⟨by omega, by decide⟩ rfl (Nat.le_of_ble_eq_true rfl) ⟨by omega, by omega⟩ dX7_beginsAt_32 ?_
    refine G_aload_n F dX7_beginsAt_35 rfl ?_
    obtain ⟨v9, e_v9, h⟩ := bnd h
    refine G_getR F okX7 (f := 55) (by decide) q1279 rfl dX7_beginsAt_36 e_v9 ?_
    refine G_iload_n F dX7_beginsAt_39 rfl ?_
    refine G_iload_n F dX7_beginsAt_40 rfl ?_
    refine G_aload_n F dX7_beginsAt_41 rfl ?_
    obtain ⟨v10, e_v10, h⟩ := bnd h
    refine G_getI F okX7 (f := 13) (by decide) q1237 rfl dX7_beginsAt_42 e_v10 ?_
    refine G_isub F dX7_beginsAt_45 ?_
    obtain ⟨m11, e_m11, h⟩ := bnd h
    refine G_iast F dX7_beginsAt_46 e_m11 ?_
    cases h
    exact G_vret F rfl (Nat.le_refl _) (Nat.le_refl _) rfl dX7_beginsAt_47
  have KB1 : ∀ s o1, fX7_beginsAt_L2 a0 a1 a2 s = some o1 → (∀ s', o1 = Sum.inl s' → (fun (s : (Int32 × Hp)) => match s with | (s3_1, m1) => G X cx 4 (Qm X cx none m_ nx 0 0) (0) (0) m1 (nx) [some (.inr a0), some (.inl a1), some (.inl a2), some (.inl s3_1)] [] 2) s') → (∀ q, o1 = Sum.inr q → q = r1) → (fun (s : (Int32 × Hp)) => match s with | (s3_1, m1) => G X cx 4 (Qm X cx none m_ nx 0 0) (0) (0) m1 (nx) [some (.inr a0), some (.inl a1), some (.inl a2), some (.inl s3_1)] [] 2) s := by
    intro s o1 h hP1 hE1
    obtain ⟨s3_1, m1⟩ := s
    try dsimp only at hP1 hE1 ⊢
    refine G_iload_n F dX7_beginsAt_2 rfl ?_
    refine G_bipush F (v := (10 : Int32)) dX7_beginsAt_3 (by decide) ?_
    refine G_icmp_ge F (tgt := 23) dX7_beginsAt_5 (by decide) (fun c2 => ?_) (fun c2 => ?_)
    · have h := itt c2 h
      cases h
      exact G_sub F (L2 := [some (.inr a0), some (.inl a1), some (.inl a2), none]) ⟨rfl, ⟨rfl, ⟨rfl, trivial⟩⟩⟩ (KE1 _ (hE1 _ rfl))
    · have h := itf c2 h
      refine G_aload_n F dX7_beginsAt_8 rfl ?_
      obtain ⟨v3, e_v3, h⟩ := bnd h
      refine G_getR F okX7 (f := 55) (by decide) q1279 rfl dX7_beginsAt_9 e_v3 ?_
      refine G_iload_n F dX7_beginsAt_12 rfl ?_
      refine G_ldcw F q1667 dX7_beginsAt_13 ?_
      obtain ⟨m4, e_m4, h⟩ := bnd h
      refine G_iast F dX7_beginsAt_16 e_m4 ?_
      refine G_iinc F (v := (s3_1 + (1 : Int32))) (L2 := [some (.inr a0), some (.inl a1), some (.inl a2), some (.inl (s3_1 + (1 : Int32)))]) dX7_beginsAt_17 (by decide) rfl rfl rfl ?_
      refine G_goto F (tgt := 2) dX7_beginsAt_20 (by decide) ?_
      cases h
      exact G_sub F (L2 := [some (.inr a0), some (.inl a1), some (.inl a2), some (.inl (s3_1 + (1 : Int32)))]) ⟨rfl, ⟨rfl, ⟨rfl, ⟨rfl, trivial⟩⟩⟩⟩ (hP1 _ rfl)
  have hI := iter_ok (fun (s : (Int32 × Hp)) => match s with | (s3_1, m1) => G X cx 4 (Qm X cx none m_ nx 0 0) (0) (0) m1 (nx) [some (.inr a0), some (.inl a1), some (.inl a2), some (.inl s3_1)] [] 2) (fun q => q = r1) KB1 _ _ _ hr1 rfl
  exact G_sub F (L2 := [some (.inr a0), some (.inl a1), some (.inl a2), some (.inl (0 : Int32))]) ⟨rfl, ⟨rfl, ⟨rfl, ⟨rfl, trivial⟩⟩⟩⟩ hI

theorem metX7_soonest (X : Gx) {m : Hp} {nx : Nat} {a0 : Option Nat} {a1 : Int32} {a2 : Int32} {a3 : Int32} {rv : Int32} {m_ : Hp} (h : fX7_soonest m a0 a1 a2 a3 = some (rv, m_)) : Con X (5) yX7_soonest cX7_soonest 5 ((Option.some FieldType.int)) [.inr a0, .inl a1, .inl a2, .inl a3] m nx (some (.inl rv)) m_ 0 0 := by
  refine Con.of (own := RX7) (nm := "soonest") (L := [some (.inr a0), some (.inl a1), some (.inl a2), some (.inl a3), none]) (by decide +kernel) rfl rfl (Nat.le_of_ble_eq_true rfl) (ent_of 1 rfl) ?_
  intro cx F
  refine G_aload_n F dX7_soonest_0 rfl ?_
  refine G_iload_n F dX7_soonest_1 rfl ?_
  refine G_iload_n F dX7_soonest_2 rfl ?_
  obtain ⟨m1, e_m1, h⟩ := bnd h
  obtain ⟨hc_m1, e_m1⟩ := hp_on_of e_m1
  refine G_callV0 F (As := [.inl a1, .inl a3]) (st := []) (metX7_beginsAt X e_m1) hc_m1 rfl rfl (lw_V q1663 q1665 qs83 q109 q1666) hdfX7_beginsAt ⟨by omega, by decide⟩ rfl (Nat.le_of_ble_eq_true rfl) ⟨by omega, by omega⟩ dX7_soonest_3 ?_
  refine G_iconst F (v := (1 : Int32)) dX7_soonest_6 (by decide) ?_
  refine G_istore F (L2 := [some (.inr a0), some (.inl a1), some (.inl a2), some (.inl a3), some (.inl (1 : Int32))]) dX7_soonest_7 (by decide) rfl ?_
  obtain ⟨r2, hr2, h⟩ := bnd h
  have KE2 : ∀ (m6 : Hp), m6 = r2 → G X cx 5 (Qm X cx (some (.inl rv)) m_ nx 0 0) (0) (0) m6 (nx) [some (.inr a0), none, some (.inl a2), none, none] [] 30 := by
    intro m6 hq
    subst hq
    try dsimp only at h
    refine G_aload_n F dX7_soonest_30 rfl ?_
    obtain ⟨v7, e_v7, h⟩ := bnd h
    refine G_getR F okX7 (f := 55) (by decide) q1279 rfl dX7_soonest_31 e_v7 ?_
    refine G_iload_n F dX7_soonest_34 rfl ?_
    obtain ⟨v8, e_v8, h⟩ := bnd h
    refine G_iald F dX7_soonest_35 e_v8 ?_
    cases h
    exact G_iret F rfl (Nat.le_refl _) (Nat.le_refl _) rfl dX7_soonest_36
  have KB2 : ∀ s o2, fX7_soonest_L9 a0 a2 s = some o2 → (∀ s', o2 = Sum.inl s' → (fun (s : (Int32 × Hp)) => match s with | (s4_2, m2) => G X cx 5 (Qm X cx (some (.inl rv)) m_ nx 0 0) (0) (0) m2 (nx) [some (.inr a0), none, some (.inl a2), none, some (.inl s4_2)] [] 9) s') → (∀ q, o2 = Sum.inr q → q = r2) → (fun (s : (Int32 × Hp)) => match s with | (s4_2, m2) => G X cx 5 (Qm X cx (some (.inl rv)) m_ nx 0 0) (0) (0) m2 (nx) [some (.inr a0), none, some (.inl a2), none, some (.inl s4_2)] [] 9) s := by
    intro s o2 h hP2 hE2
    obtain ⟨s4_2, m2⟩ := s
    try dsimp only at hP2 hE2 ⊢
    refine G_iload F dX7_soonest_9 rfl ?_
    refine G_bipush F (v := (10 : Int32)) dX7_soonest_11 (by decide) ?_
    refine G_icmp_ge F (tgt := 30) dX7_soonest_13 (by decide) (fun c3 => ?_) (fun c3 => ?_)
    · have h := itt c3 h
      cases h
      exact G_sub F (L2 := [some (.inr a0), none, some (.inl a2), none, none]) ⟨rfl, ⟨rfl, trivial⟩⟩ (KE2 _ (hE2 _ rfl))
    · have h := itf c3 h
      refine G_aload_n F dX7_soonest_16 rfl ?_
      refine G_aload_n F dX7_soonest_17 rfl ?_
      obtain ⟨v4, e_v4, h⟩ := bnd h
      refine G_getI F okX7 (f := 13) (by decide) q1237 rfl dX7_soonest_18 e_v4 ?_
      obtain ⟨m5, e_m5, h⟩ := bnd h
      obtain ⟨hc_m5, e_m5⟩ := hp_on_of e_m5
      refine G_callV0 F (As := [.inl v4]) (st := []) (metX7_oneRideMore X e_m5) hc_m5 rfl rfl (lw_V q1668 q1670 qs84 q109 q1671) hdfX7_oneRideMore ⟨by omega, by decide⟩ rfl (Nat.le_of_ble_eq_true rfl) ⟨by omega, by omega⟩ dX7_soonest_21 ?_
      refine G_iinc F (v := (s4_2 + (1 : Int32))) (L2 := [some (.inr a0), none, some (.inl a2), none, some (.inl (s4_2 + (1 : Int32)))]) dX7_soonest_24 (by decide) rfl rfl rfl ?_
      refine G_goto F (tgt := 9) dX7_soonest_27 (by decide) ?_
      cases h
      exact G_sub F (L2 := [some (.inr a0), none, some (.inl a2), none, some (.inl (s4_2 + (1 : Int32)))]) ⟨rfl, ⟨rfl, ⟨rfl, trivial⟩⟩⟩ (hP2 _ rfl)
  have hI := iter_ok (fun (s : (Int32 × Hp)) => match s with | (s4_2, m2) => G X cx 5 (Qm X cx (some (.inl rv)) m_ nx 0 0) (0) (0) m2 (nx) [some (.inr a0), none, some (.inl a2), none, some (.inl s4_2)] [] 9) (fun q => q = r2) KB2 _ _ _ hr2 rfl
  exact G_sub F (L2 := [some (.inr a0), none, some (.inl a2), none, some (.inl (1 : Int32))]) ⟨rfl, ⟨rfl, ⟨rfl, trivial⟩⟩⟩ hI

theorem metX7_earliest (X : Gx) {m : Hp} {nx : Nat} {a0 : Option Nat} {a1 : Int32} {a2 : Int32} {a3 : Int32} {a4 : Int32} {rv : Int32} {m_ : Hp} (h : fX7_earliest m a0 a1 a2 a3 a4 = some (rv, m_)) : Con X (6) yX7_earliest cX7_earliest 7 ((Option.some FieldType.int)) [.inr a0, .inl a1, .inl a2, .inl a3, .inl a4] m nx (some (.inl rv)) m_ 0 0 := by
  refine Con.of (own := RX7) (nm := "earliest") (L := [some (.inr a0), some (.inl a1), some (.inl a2), some (.inl a3), some (.inl a4), none, none]) (by decide +kernel) rfl rfl (Nat.le_of_ble_eq_true rfl) (ent_of 2 rfl) ?_
  intro cx F
  refine G_iload_n F dX7_earliest_0 rfl ?_
  refine G_iload_n F dX7_earliest_1 rfl ?_
  obtain ⟨v1, e_v1, h⟩ := bnd h
  refine G_callSv F (As := [.inl a1, .inl a2]) (st := []) (metX7_areTwo X e_v1) (lw_S q1430 q1431 q109 q1432) hdfX7_areTwo ⟨by omega, by decide⟩ rfl (Nat.le_of_ble_eq_true rfl) ⟨by omega, by omega⟩ dX7_earliest_2 ?_
  refine G_if_eq F (tgt := 29) dX7_earliest_5 (by decide) (fun c2 => ?_) (fun c2 => ?_)
  · have h := itt c2 h
    refine G_iconst F (v := (-1 : Int32)) dX7_earliest_29 (by decide) ?_
    cases h
    exact G_iret F rfl (Nat.le_refl _) (Nat.le_refl _) rfl dX7_earliest_30
  · have h := itf c2 h
    refine G_iload_n F dX7_earliest_8 rfl ?_
    refine G_iconst F (v := (0 : Int32)) dX7_earliest_9 (by decide) ?_
    refine G_sipush F (v := (1439 : Int32)) dX7_earliest_10 (by decide) ?_
    obtain ⟨v3, e_v3, h⟩ := bnd h
    refine G_callSv F (As := [.inl a3, .inl (0 : Int32), .inl (1439 : Int32)]) (st := []) (metX7_in X e_v3) (lw_S q1427 q1428 q109 q1429) hdfX7_in ⟨by omega, by decide⟩ rfl (Nat.le_of_ble_eq_true rfl) ⟨by omega, by omega⟩ dX7_earliest_13 ?_
    refine G_if_eq F (tgt := 29) dX7_earliest_16 (by decide) (fun c4 => ?_) (fun c4 => ?_)
    · have h := itt c4 h
      refine G_iconst F (v := (-1 : Int32)) dX7_earliest_29 (by decide) ?_
      cases h
      exact G_iret F rfl (Nat.le_refl _) (Nat.le_refl _) rfl dX7_earliest_30
    · have h := itf c4 h
      refine G_iload F dX7_earliest_19 rfl ?_
      refine G_iconst F (v := (0 : Int32)) dX7_earliest_21 (by decide) ?_
      refine G_iconst F (v := (1 : Int32)) dX7_earliest_22 (by decide) ?_
      obtain ⟨v5, e_v5, h⟩ := bnd h
      refine G_callSv F (As := [.inl a4, .inl (0 : Int32), .inl (1 : Int32)]) (st := []) (metX7_in X e_v5) (lw_S q1427 q1428 q109 q1429) hdfX7_in ⟨by omega, by decide⟩ rfl (Nat.le_of_ble_eq_true rfl) ⟨by omega, by omega⟩ dX7_earliest_23 ?_
      refine G_if_ne F (tgt := 31) dX7_earliest_26 (by decide) (fun c6 => ?_) (fun c6 => ?_)
      · have h := itf c6 h
        refine G_aload_n F dX7_earliest_31 rfl ?_
        refine G_iload_n F dX7_earliest_32 rfl ?_
        refine G_iload_n F dX7_earliest_33 rfl ?_
        refine G_iload_n F dX7_earliest_34 rfl ?_
        obtain ⟨⟨v7, m8⟩, e_v7, h⟩ := bnd h
        obtain ⟨hc_v7, e_v7⟩ := hp_on_of e_v7
        refine G_callVv F (As := [.inl a1, .inl a2, .inl a3]) (st := []) (metX7_soonest X e_v7) hc_v7 rfl rfl (lw_V q1659 q1661 qs82 q109 q1662) hdfX7_soonest ⟨by omega, by decide⟩ rfl (Nat.le_of_ble_eq_true rfl) ⟨by omega, by omega⟩ dX7_earliest_35 ?_
        refine G_istore F (L2 := [some (.inr a0), some (.inl a1), some (.inl a2), some (.inl a3), some (.inl a4), some (.inl v7), none]) dX7_earliest_38 (by decide) rfl ?_
        refine G_iload F dX7_earliest_40 rfl ?_
        refine G_ldcw F q1667 dX7_earliest_42 ?_
        refine G_icmp_ne F (tgt := 51) dX7_earliest_45 (by decide) (fun c9 => ?_) (fun c9 => ?_)
        · have h := itf c9 h
          refine G_iload F dX7_earliest_51 rfl ?_
          refine G_if_ne F (tgt := 59) dX7_earliest_53 (by decide) (fun c10 => ?_) (fun c10 => ?_)
          · have h := itf c10 h
            refine G_aload_n F dX7_earliest_59 rfl ?_
            refine G_iload_n F dX7_earliest_60 rfl ?_
            refine G_iload_n F dX7_earliest_61 rfl ?_
            obtain ⟨m11, e_m11, h⟩ := bnd h
            obtain ⟨hc_m11, e_m11⟩ := hp_on_of e_m11
            refine G_callV0 F (As := [.inl a1, .inl a3]) (st := []) (metX7_beginsAt X e_m11) hc_m11 rfl rfl (lw_V q1663 q1665 qs83 q109 q1666) hdfX7_beginsAt ⟨by omega, by decide⟩ rfl (Nat.le_of_ble_eq_true rfl) ⟨by omega, by omega⟩ dX7_earliest_62 ?_
            refine G_iconst F (v := (1 : Int32)) dX7_earliest_65 (by decide) ?_
            refine G_istore F (L2 := [some (.inr a0), some (.inl a1), some (.inl a2), some (.inl a3), some (.inl a4), some (.inl v7), some (.inl (1 : Int32))]) dX7_earliest_66 (by decide) rfl ?_
            obtain ⟨r12, hr12, h⟩ := bnd h
            have KE12 : ∀ (v18 : Int32) (m19 : Hp), (v18, m19) = r12 → G X cx 7 (Qm X cx (some (.inl rv)) m_ nx 0 0) (0) (0) m19 (nx) [none, none, none, none, none, none, some (.inl v18)] [] 96 := by
              intro v18 m19 hq
              subst hq
              try dsimp only at h
              refine G_iload F dX7_earliest_96 rfl ?_
              cases h
              exact G_iret F rfl (Nat.le_refl _) (Nat.le_refl _) rfl dX7_earliest_98
            have KB12 : ∀ s o12, fX7_earliest_L68 a0 a2 v7 s = some o12 → (∀ s', o12 = Sum.inl s' → (fun (s : (Int32 × Hp)) => match s with | (s6_12, m12) => G X cx 7 (Qm X cx (some (.inl rv)) m_ nx 0 0) (0) (0) m12 (nx) [some (.inr a0), none, some (.inl a2), none, none, some (.inl v7), some (.inl s6_12)] [] 68) s') → (∀ q, o12 = Sum.inr q → q = r12) → (fun (s : (Int32 × Hp)) => match s with | (s6_12, m12) => G X cx 7 (Qm X cx (some (.inl rv)) m_ nx 0 0) (0) (0) m12 (nx) [some (.inr a0), none, some (.inl a2), none, none, some (.inl v7), some (.inl s6_12)] [] 68) s := by
              intro s o12 h hP12 hE12
              obtain ⟨s6_12, m12⟩ := s
              try dsimp only at hP12 hE12 ⊢
              refine G_aload_n F dX7_earliest_68 rfl ?_
              obtain ⟨v13, e_v13, h⟩ := bnd h
              refine G_getR F okX7 (f := 55) (by decide) q1279 rfl dX7_earliest_69 e_v13 ?_
              refine G_iload_n F dX7_earliest_72 rfl ?_
              obtain ⟨v14, e_v14, h⟩ := bnd h
              refine G_iald F dX7_earliest_73 e_v14 ?_
              refine G_iload F dX7_earliest_74 rfl ?_
              refine G_icmp_eq F (tgt := 96) dX7_earliest_76 (by decide) (fun c15 => ?_) (fun c15 => ?_)
              · have h := itt c15 h
                cases h
                exact G_sub F (L2 := [none, none, none, none, none, none, some (.inl s6_12)]) ⟨rfl, trivial⟩ (KE12 _ _ (hE12 _ rfl))
              · have h := itf c15 h
                refine G_aload_n F dX7_earliest_79 rfl ?_
                refine G_aload_n F dX7_earliest_80 rfl ?_
                obtain ⟨v16, e_v16, h⟩ := bnd h
                refine G_getI F okX7 (f := 13) (by decide) q1237 rfl dX7_earliest_81 e_v16 ?_
                obtain ⟨m17, e_m17, h⟩ := bnd h
                obtain ⟨hc_m17, e_m17⟩ := hp_on_of e_m17
                refine G_callV0 F (As := [.inl v16]) (st := []) (metX7_oneRideMore X e_m17) hc_m17 rfl rfl (lw_V q1668 q1670 qs84 q109 q1671) hdfX7_oneRideMore ⟨by omega, by decide⟩ rfl (Nat.le_of_ble_eq_true rfl) ⟨by omega, by omega⟩ dX7_earliest_84 ?_
                refine G_iload F dX7_earliest_87 rfl ?_
                refine G_iconst F (v := (1 : Int32)) dX7_earliest_89 (by decide) ?_
                refine G_iadd F dX7_earliest_90 ?_
                refine G_istore F (L2 := [some (.inr a0), none, some (.inl a2), none, none, some (.inl v7), some (.inl (s6_12 + (1 : Int32)))]) dX7_earliest_91 (by decide) rfl ?_
                refine G_goto F (tgt := 68) dX7_earliest_93 (by decide) ?_
                cases h
                exact G_sub F (L2 := [some (.inr a0), none, some (.inl a2), none, none, some (.inl v7), some (.inl (s6_12 + (1 : Int32)))]) ⟨rfl, ⟨rfl, ⟨rfl, ⟨rfl, trivial⟩⟩⟩⟩ (hP12 _ rfl)
            have hI := iter_ok (fun (s : (Int32 × Hp)) => match s with | (s6_12, m12) => G X cx 7 (Qm X cx (some (.inl rv)) m_ nx 0 0) (0) (0) m12 (nx) [some (.inr a0), none, some (.inl a2), none, none, some (.inl v7), some (.inl s6_12)] [] 68) (fun q => q = r12) KB12 _ _ _ hr12 rfl
            exact G_sub F (L2 := [some (.inr a0), none, some (.inl a2), none, none, some (.inl v7), some (.inl (1 : Int32))]) ⟨rfl, ⟨rfl, ⟨rfl, ⟨rfl, trivial⟩⟩⟩⟩ hI
          · have h := itt c10 h
            refine G_iload F dX7_earliest_56 rfl ?_
            cases h
            exact G_iret F rfl (Nat.le_refl _) (Nat.le_refl _) rfl dX7_earliest_58
        · have h := itt c9 h
          refine G_bipush F (v := (-2 : Int32)) dX7_earliest_48 (by decide) ?_
          cases h
          exact G_iret F rfl (Nat.le_refl _) (Nat.le_refl _) rfl dX7_earliest_50
      · have h := itt c6 h
        refine G_iconst F (v := (-1 : Int32)) dX7_earliest_29 (by decide) ?_
        cases h
        exact G_iret F rfl (Nat.le_refl _) (Nat.le_refl _) rfl dX7_earliest_30
