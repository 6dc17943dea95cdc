set_option maxRecDepth 100000
set_option linter.unusedVariables false
theorem metX7_reckonsTo (X : Gx) {m : Hp} {nx : Nat} {a0 : Option Nat} {a1 : Int32} {a2 : Int32} {rv : Int32} {m_ : Hp} (h : fX7_reckonsTo m a0 a1 a2 = some (rv, m_)) : Con X (2) yX7_reckonsTo cX7_reckonsTo 8 ((Option.some FieldType.int)) [.inr a0, .inl a1, .inl a2] m nx (some (.inl rv)) m_ 0 0 := by
  refine Con.of (own := RX7) (nm := "reckonsTo") (L := [some (.inr a0), some (.inl a1), some (.inl a2), none, none, none, none, none]) (by decide +kernel) rfl rfl (Nat.le_of_ble_eq_true rfl) (ent_of 5 rfl) ?_
  intro cx F
  refine G_iconst F (v := (0 : Int32)) dX7_reckonsTo_0 (by decide) ?_
  refine G_istore_n F (L2 := [some (.inr a0), some (.inl a1), some (.inl a2), some (.inl (0 : Int32)), none, none, none, none]) dX7_reckonsTo_1 (by decide) rfl ?_
  refine G_sipush F (v := (260 : Int32)) dX7_reckonsTo_2 (by decide) ?_
  refine G_iload_n F dX7_reckonsTo_5 rfl ?_
  refine G_sipush F (v := (260 : Int32)) dX7_reckonsTo_6 (by decide) ?_
  refine G_idiv F (by decide) dX7_reckonsTo_9 ?_
  refine G_imul F dX7_reckonsTo_10 ?_
  refine G_istore F (L2 := [some (.inr a0), some (.inl a1), some (.inl a2), some (.inl (0 : Int32)), some (.inl ((260 : Int32) * (a1 / (260 : Int32)))), none, none, none]) dX7_reckonsTo_11 (by decide) rfl ?_
  refine G_iload_n F dX7_reckonsTo_13 rfl ?_
  refine G_istore F (L2 := [some (.inr a0), some (.inl a1), some (.inl a2), some (.inl (0 : Int32)), some (.inl ((260 : Int32) * (a1 / (260 : Int32)))), some (.inl a1), none, none]) dX7_reckonsTo_14 (by decide) rfl ?_
  obtain ⟨r1, hr1, h⟩ := bnd h
  have KE1 : ∀ (m53 : Hp), Sum.inl m53 = r1 → G X cx 8 (Qm X cx (some (.inl rv)) m_ nx 0 0) (0) (0) m53 (nx) [some (.inr a0), none, none, none, none, none, none, none] [] 233 := by
    intro m53 hq
    subst hq
    try dsimp only at h
    refine G_aload_n F dX7_reckonsTo_233 rfl ?_
    obtain ⟨v54, e_v54, h⟩ := bnd h
    refine G_getR F okX7 (f := 38) (by decide) q1262 rfl dX7_reckonsTo_234 e_v54 ?_
    refine G_iconst F (v := (0 : Int32)) dX7_reckonsTo_237 (by decide) ?_
    obtain ⟨v55, e_v55, h⟩ := bnd h
    refine G_iald F dX7_reckonsTo_238 e_v55 ?_
    cases h
    exact G_iret F rfl (Nat.le_refl _) (Nat.le_refl _) rfl dX7_reckonsTo_239
  have KR1 : ∀ q, Sum.inr q = r1 → some q = some (rv, m_) := by
    intro q hq
    subst hq
    exact h
  have KB1 : ∀ s o1, fX7_reckonsTo_L16 a0 a2 ((260 : Int32) * (a1 / (260 : Int32))) s = some o1 → (∀ s', o1 = Sum.inl s' → (fun (s : (Int32 × Int32 × Hp)) => match s with | (s3_1, s5_1, m1) => G X cx 8 (Qm X cx (some (.inl rv)) m_ nx 0 0) (0) (0) m1 (nx) [some (.inr a0), none, some (.inl a2), some (.inl s3_1), some (.inl ((260 : Int32) * (a1 / (260 : Int32)))), some (.inl s5_1), none, none] [] 16) s') → (∀ q, o1 = Sum.inr q → q = r1) → (fun (s : (Int32 × Int32 × Hp)) => match s with | (s3_1, s5_1, m1) => G X cx 8 (Qm X cx (some (.inl rv)) m_ nx 0 0) (0) (0) m1 (nx) [some (.inr a0), none, some (.inl a2), some (.inl s3_1), some (.inl ((260 : Int32) * (a1 / (260 : Int32)))), some (.inl s5_1), none, none] [] 16) s := by
    intro s o1 h hP1 hE1
    obtain ⟨s3_1, s5_1, m1⟩ := s
    try dsimp only at hP1 hE1 ⊢
    refine G_iload F dX7_reckonsTo_16 rfl ?_
    refine G_iload_n F dX7_reckonsTo_18 rfl ?_
    refine G_icmp_ge F (tgt := 233) dX7_reckonsTo_19 (by decide) (fun c2 => ?_) (fun c2 => ?_)
    · have h := itt c2 h
      cases h
      exact G_sub F (L2 := [some (.inr a0), none, none, none, none, none, none, none]) ⟨rfl, trivial⟩ (KE1 _ (hE1 _ rfl))
    · have h := itf c2 h
      refine G_aload_n F dX7_reckonsTo_22 rfl ?_
      obtain ⟨v3, e_v3, h⟩ := bnd h
      refine G_getR F okX7 (f := 33) (by decide) q1257 rfl dX7_reckonsTo_23 e_v3 ?_
      refine G_iload F dX7_reckonsTo_26 rfl ?_
      obtain ⟨v4, e_v4, h⟩ := bnd h
      refine G_iald F dX7_reckonsTo_28 e_v4 ?_
      refine G_ldc F q1480 dX7_reckonsTo_29 ?_
      refine G_idiv F (by decide) dX7_reckonsTo_31 ?_
      refine G_istore F (L2 := [some (.inr a0), none, some (.inl a2), some (.inl s3_1), some (.inl ((260 : Int32) * (a1 / (260 : Int32)))), some (.inl s5_1), some (.inl (v4 / (1048576 : Int32))), none]) dX7_reckonsTo_32 (by decide) rfl ?_
      refine G_aload_n F dX7_reckonsTo_34 rfl ?_
      obtain ⟨v5, e_v5, h⟩ := bnd h
      refine G_getR F okX7 (f := 33) (by decide) q1257 rfl dX7_reckonsTo_35 e_v5 ?_
      refine G_iload F dX7_reckonsTo_38 rfl ?_
      obtain ⟨v6, e_v6, h⟩ := bnd h
      refine G_iald F dX7_reckonsTo_40 e_v6 ?_
      refine G_ldc F q1480 dX7_reckonsTo_41 ?_
      refine G_irem F (by decide) dX7_reckonsTo_43 ?_
      refine G_istore F (L2 := [some (.inr a0), none, some (.inl a2), some (.inl s3_1), some (.inl ((260 : Int32) * (a1 / (260 : Int32)))), some (.inl s5_1), some (.inl (v4 / (1048576 : Int32))), some (.inl (jrem v6 (1048576 : Int32)))]) dX7_reckonsTo_44 (by decide) rfl ?_
      refine G_iload F dX7_reckonsTo_46 rfl ?_
      refine G_iconst F (v := (1 : Int32)) dX7_reckonsTo_48 (by decide) ?_
      refine G_iadd F dX7_reckonsTo_49 ?_
      refine G_istore F (L2 := [some (.inr a0), none, some (.inl a2), some (.inl s3_1), some (.inl ((260 : Int32) * (a1 / (260 : Int32)))), some (.inl (s5_1 + (1 : Int32))), some (.inl (v4 / (1048576 : Int32))), some (.inl (jrem v6 (1048576 : Int32)))]) dX7_reckonsTo_50 (by decide) rfl ?_
      refine G_iload F dX7_reckonsTo_52 rfl ?_
      obtain ⟨p7, hp7, h⟩ := bnd h
      have K7 : ∀ (_ : Unit), Sum.inl () = p7 → G X cx 8 (Qm X cx (some (.inl rv)) m_ nx 0 0) (0) (0) m1 (nx) [some (.inr a0), none, some (.inl a2), some (.inl s3_1), some (.inl ((260 : Int32) * (a1 / (260 : Int32)))), some (.inl (s5_1 + (1 : Int32))), some (.inl (v4 / (1048576 : Int32))), some (.inl (jrem v6 (1048576 : Int32)))] [] 63 := by
        intro _ hq
        subst hq
        try dsimp only at h
        refine G_aload_n F dX7_reckonsTo_63 rfl ?_
        obtain ⟨v8, e_v8, h⟩ := bnd h
        refine G_getR F okX7 (f := 38) (by decide) q1262 rfl dX7_reckonsTo_64 e_v8 ?_
        refine G_iload_n F dX7_reckonsTo_67 rfl ?_
        refine G_iload F dX7_reckonsTo_68 rfl ?_
        refine G_if_ne F (tgt := 78) dX7_reckonsTo_70 (by decide) (fun c9 => ?_) (fun c9 => ?_)
        · have h := itf c9 h
          refine G_aload_n F dX7_reckonsTo_78 rfl ?_
          obtain ⟨v10, e_v10, h⟩ := bnd h
          refine G_getR F okX7 (f := 39) (by decide) q1263 rfl dX7_reckonsTo_79 e_v10 ?_
          refine G_iload F dX7_reckonsTo_82 rfl ?_
          obtain ⟨v11, e_v11, h⟩ := bnd h
          refine G_iald F dX7_reckonsTo_84 e_v11 ?_
          obtain ⟨m12, e_m12, h⟩ := bnd h
          refine G_iast F dX7_reckonsTo_85 e_m12 ?_
          refine G_iload_n F dX7_reckonsTo_86 rfl ?_
          refine G_iconst F (v := (1 : Int32)) dX7_reckonsTo_87 (by decide) ?_
          refine G_iadd F dX7_reckonsTo_88 ?_
          refine G_istore_n F (L2 := [some (.inr a0), none, some (.inl a2), some (.inl (s3_1 + (1 : Int32))), some (.inl ((260 : Int32) * (a1 / (260 : Int32)))), some (.inl (s5_1 + (1 : Int32))), some (.inl (v4 / (1048576 : Int32))), some (.inl (jrem v6 (1048576 : Int32)))]) dX7_reckonsTo_89 (by decide) rfl ?_
          refine G_goto F (tgt := 230) dX7_reckonsTo_90 (by decide) ?_
          refine G_goto F (tgt := 16) dX7_reckonsTo_230 (by decide) ?_
          cases h
          exact G_sub F (L2 := [some (.inr a0), none, some (.inl a2), some (.inl (s3_1 + (1 : Int32))), some (.inl ((260 : Int32) * (a1 / (260 : Int32)))), some (.inl (s5_1 + (1 : Int32))), none, none]) ⟨rfl, ⟨rfl, ⟨rfl, ⟨rfl, ⟨rfl, trivial⟩⟩⟩⟩⟩ (hP1 _ rfl)
        · have h := itt c9 h
          refine G_iload F dX7_reckonsTo_73 rfl ?_
          refine G_goto F (tgt := 85) dX7_reckonsTo_75 (by decide) ?_
          obtain ⟨m13, e_m13, h⟩ := bnd h
          refine G_iast F dX7_reckonsTo_85 e_m13 ?_
          refine G_iload_n F dX7_reckonsTo_86 rfl ?_
          refine G_iconst F (v := (1 : Int32)) dX7_reckonsTo_87 (by decide) ?_
          refine G_iadd F dX7_reckonsTo_88 ?_
          refine G_istore_n F (L2 := [some (.inr a0), none, some (.inl a2), some (.inl (s3_1 + (1 : Int32))), some (.inl ((260 : Int32) * (a1 / (260 : Int32)))), some (.inl (s5_1 + (1 : Int32))), some (.inl (v4 / (1048576 : Int32))), some (.inl (jrem v6 (1048576 : Int32)))]) dX7_reckonsTo_89 (by decide) rfl ?_
          refine G_goto F (tgt := 230) dX7_reckonsTo_90 (by decide) ?_
          refine G_goto F (tgt := 16) dX7_reckonsTo_230 (by decide) ?_
          cases h
          exact G_sub F (L2 := [some (.inr a0), none, some (.inl a2), some (.inl (s3_1 + (1 : Int32))), some (.inl ((260 : Int32) * (a1 / (260 : Int32)))), some (.inl (s5_1 + (1 : Int32))), none, none]) ⟨rfl, ⟨rfl, ⟨rfl, ⟨rfl, ⟨rfl, trivial⟩⟩⟩⟩⟩ (hP1 _ rfl)
      have K7o : ∀ o, Sum.inr o = p7 → some o = some o1 := by
        intro o hq
        subst hq
        exact h
      have h := hp7
      clear hp7
      refine G_if_eq F (tgt := 63) dX7_reckonsTo_54 (by decide) (fun c14 => ?_) (fun c14 => ?_)
      · have h := itt c14 h
        have hq_ := Option.some.inj h
        exact G_sub F (L2 := [some (.inr a0), none, some (.inl a2), some (.inl s3_1), some (.inl ((260 : Int32) * (a1 / (260 : Int32)))), some (.inl (s5_1 + (1 : Int32))), some (.inl (v4 / (1048576 : Int32))), some (.inl (jrem v6 (1048576 : Int32)))]) ⟨rfl, ⟨rfl, ⟨rfl, ⟨rfl, ⟨rfl, ⟨rfl, ⟨rfl, trivial⟩⟩⟩⟩⟩⟩⟩ (K7 () hq_)
      · have h := itf c14 h
        refine G_iload F dX7_reckonsTo_57 rfl ?_
        refine G_iconst F (v := (1 : Int32)) dX7_reckonsTo_59 (by decide) ?_
        refine G_icmp_ne F (tgt := 93) dX7_reckonsTo_60 (by decide) (fun c15 => ?_) (fun c15 => ?_)
        · have h := itf c15 h
          refine G_iload F dX7_reckonsTo_93 rfl ?_
          refine G_bipush F (v := (10 : Int32)) dX7_reckonsTo_95 (by decide) ?_
          refine G_icmp_ne F (tgt := 121) dX7_reckonsTo_97 (by decide) (fun c16 => ?_) (fun c16 => ?_)
          · have h := itf c16 h
            refine G_iload F dX7_reckonsTo_121 rfl ?_
            refine G_bipush F (v := (11 : Int32)) dX7_reckonsTo_123 (by decide) ?_
            obtain ⟨p17, hp17, h⟩ := bnd h
            have K17 : ∀ (_ : Unit), Sum.inl () = p17 → G X cx 8 (Qm X cx (some (.inl rv)) m_ nx 0 0) (0) (0) m1 (nx) [some (.inr a0), none, some (.inl a2), some (.inl s3_1), some (.inl ((260 : Int32) * (a1 / (260 : Int32)))), some (.inl (s5_1 + (1 : Int32))), some (.inl (v4 / (1048576 : Int32))), some (.inl (jrem v6 (1048576 : Int32)))] [] 135 := by
              intro _ hq
              subst hq
              try dsimp only at h
              refine G_aload_n F dX7_reckonsTo_135 rfl ?_
              obtain ⟨v18, e_v18, h⟩ := bnd h
              refine G_getR F okX7 (f := 38) (by decide) q1262 rfl dX7_reckonsTo_136 e_v18 ?_
              refine G_iload_n F dX7_reckonsTo_139 rfl ?_
              refine G_iconst F (v := (1 : Int32)) dX7_reckonsTo_140 (by decide) ?_
              refine G_isub F dX7_reckonsTo_141 ?_
              obtain ⟨v19, e_v19, h⟩ := bnd h
              refine G_iald F dX7_reckonsTo_142 e_v19 ?_
              refine G_iload F dX7_reckonsTo_143 rfl ?_
              refine G_bipush F (v := (12 : Int32)) dX7_reckonsTo_145 (by decide) ?_
              obtain ⟨p21, hp21, h⟩ := bnd h
              have K21 : ∀ (v20 : Int32), v20 = p21 → G X cx 8 (Qm X cx (some (.inl rv)) m_ nx 0 0) (0) (0) m1 (nx) [some (.inr a0), none, some (.inl a2), some (.inl s3_1), some (.inl ((260 : Int32) * (a1 / (260 : Int32)))), some (.inl (s5_1 + (1 : Int32))), none, some (.inl (jrem v6 (1048576 : Int32)))] [.inl v20, .inl v19] 155 := by
                intro v20 hq
                subst hq
                try dsimp only at h
                refine G_icmp_ne F (tgt := 168) dX7_reckonsTo_155 (by decide) (fun c22 => ?_) (fun c22 => ?_)
                · have h := itf c22 h
                  refine G_iload_n F dX7_reckonsTo_168 rfl ?_
                  refine G_iconst F (v := (1 : Int32)) dX7_reckonsTo_169 (by decide) ?_
                  refine G_isub F dX7_reckonsTo_170 ?_
                  refine G_istore_n F (L2 := [some (.inr a0), none, some (.inl a2), some (.inl (s3_1 - (1 : Int32))), some (.inl ((260 : Int32) * (a1 / (260 : Int32)))), some (.inl (s5_1 + (1 : Int32))), none, some (.inl (jrem v6 (1048576 : Int32)))]) dX7_reckonsTo_171 (by decide) rfl ?_
                  refine G_goto F (tgt := 230) dX7_reckonsTo_172 (by decide) ?_
                  refine G_goto F (tgt := 16) dX7_reckonsTo_230 (by decide) ?_
                  have hq_ := Option.some.inj h
                  have h := K7o _ hq_
                  cases h
                  exact G_sub F (L2 := [some (.inr a0), none, some (.inl a2), some (.inl (s3_1 - (1 : Int32))), some (.inl ((260 : Int32) * (a1 / (260 : Int32)))), some (.inl (s5_1 + (1 : Int32))), none, none]) ⟨rfl, ⟨rfl, ⟨rfl, ⟨rfl, ⟨rfl, trivial⟩⟩⟩⟩⟩ (hP1 _ rfl)
                · have h := itt c22 h
                  refine G_iload F dX7_reckonsTo_158 rfl ?_
                  refine G_iload F dX7_reckonsTo_160 rfl ?_
                  refine G_iadd F dX7_reckonsTo_162 ?_
                  refine G_istore F (L2 := [some (.inr a0), none, some (.inl a2), some (.inl s3_1), some (.inl ((260 : Int32) * (a1 / (260 : Int32)))), some (.inl (((260 : Int32) * (a1 / (260 : Int32))) + (jrem v6 (1048576 : Int32)))), none, some (.inl (jrem v6 (1048576 : Int32)))]) dX7_reckonsTo_163 (by decide) rfl ?_
                  refine G_goto F (tgt := 230) dX7_reckonsTo_165 (by decide) ?_
                  refine G_goto F (tgt := 16) dX7_reckonsTo_230 (by decide) ?_
                  have hq_ := Option.some.inj h
                  have h := K7o _ hq_
                  cases h
                  exact G_sub F (L2 := [some (.inr a0), none, some (.inl a2), some (.inl s3_1), some (.inl ((260 : Int32) * (a1 / (260 : Int32)))), some (.inl (((260 : Int32) * (a1 / (260 : Int32))) + (jrem v6 (1048576 : Int32)))), none, none]) ⟨rfl, ⟨rfl, ⟨rfl, ⟨rfl, ⟨rfl, trivial⟩⟩⟩⟩⟩ (hP1 _ rfl)
              have h := hp21
              clear hp21
              refine G_icmp_ne F (tgt := 154) dX7_reckonsTo_147 (by decide) (fun c23 => ?_) (fun c23 => ?_)
              · have h := itf c23 h
                refine G_iconst F (v := (0 : Int32)) dX7_reckonsTo_154 (by decide) ?_
                have hq_ := Option.some.inj h
                exact G_sub F (L2 := [some (.inr a0), none, some (.inl a2), some (.inl s3_1), some (.inl ((260 : Int32) * (a1 / (260 : Int32)))), some (.inl (s5_1 + (1 : Int32))), none, some (.inl (jrem v6 (1048576 : Int32)))]) ⟨rfl, ⟨rfl, ⟨rfl, ⟨rfl, ⟨rfl, ⟨rfl, trivial⟩⟩⟩⟩⟩⟩ (K21 _ hq_)
              · have h := itt c23 h
                refine G_iconst F (v := (1 : Int32)) dX7_reckonsTo_150 (by decide) ?_
                refine G_goto F (tgt := 155) dX7_reckonsTo_151 (by decide) ?_
                have hq_ := Option.some.inj h
                exact G_sub F (L2 := [some (.inr a0), none, some (.inl a2), some (.inl s3_1), some (.inl ((260 : Int32) * (a1 / (260 : Int32)))), some (.inl (s5_1 + (1 : Int32))), none, some (.inl (jrem v6 (1048576 : Int32)))]) ⟨rfl, ⟨rfl, ⟨rfl, ⟨rfl, ⟨rfl, ⟨rfl, trivial⟩⟩⟩⟩⟩⟩ (K21 _ hq_)
            have K17o : ∀ o, Sum.inr o = p17 → some o = some p7 := by
              intro o hq
              subst hq
              exact h
            have h := hp17
            clear hp17
            refine G_icmp_eq F (tgt := 135) dX7_reckonsTo_125 (by decide) (fun c24 => ?_) (fun c24 => ?_)
            · have h := itt c24 h
              have hq_ := Option.some.inj h
              exact G_sub F (L2 := [some (.inr a0), none, some (.inl a2), some (.inl s3_1), some (.inl ((260 : Int32) * (a1 / (260 : Int32)))), some (.inl (s5_1 + (1 : Int32))), some (.inl (v4 / (1048576 : Int32))), some (.inl (jrem v6 (1048576 : Int32)))]) ⟨rfl, ⟨rfl, ⟨rfl, ⟨rfl, ⟨rfl, ⟨rfl, ⟨rfl, trivial⟩⟩⟩⟩⟩⟩⟩ (K17 () hq_)
            · have h := itf c24 h
              refine G_iload F dX7_reckonsTo_128 rfl ?_
              refine G_bipush F (v := (12 : Int32)) dX7_reckonsTo_130 (by decide) ?_
              refine G_icmp_ne F (tgt := 175) dX7_reckonsTo_132 (by decide) (fun c25 => ?_) (fun c25 => ?_)
              · have h := itf c25 h
                refine G_iload_n F dX7_reckonsTo_175 rfl ?_
                refine G_iconst F (v := (1 : Int32)) dX7_reckonsTo_176 (by decide) ?_
                refine G_isub F dX7_reckonsTo_177 ?_
                refine G_istore_n F (L2 := [some (.inr a0), none, some (.inl a2), some (.inl (s3_1 - (1 : Int32))), some (.inl ((260 : Int32) * (a1 / (260 : Int32)))), some (.inl (s5_1 + (1 : Int32))), some (.inl (v4 / (1048576 : Int32))), some (.inl (jrem v6 (1048576 : Int32)))]) dX7_reckonsTo_178 (by decide) rfl ?_
                refine G_iload F dX7_reckonsTo_179 rfl ?_
                refine G_iconst F (v := (5 : Int32)) dX7_reckonsTo_181 (by decide) ?_
                refine G_icmp_eq F (tgt := 192) dX7_reckonsTo_182 (by decide) (fun c26 => ?_) (fun c26 => ?_)
                · have h := itt c26 h
                  refine G_aload_n F dX7_reckonsTo_192 rfl ?_
                  obtain ⟨v27, e_v27, h⟩ := bnd h
                  refine G_getR F okX7 (f := 38) (by decide) q1262 rfl dX7_reckonsTo_193 e_v27 ?_
                  refine G_iload_n F dX7_reckonsTo_196 rfl ?_
                  obtain ⟨v28, e_v28, h⟩ := bnd h
                  refine G_iald F dX7_reckonsTo_197 e_v28 ?_
                  refine G_if_ne F (tgt := 203) dX7_reckonsTo_198 (by decide) (fun c29 => ?_) (fun c29 => ?_)
                  · have h := itf c29 h
                    refine G_aload_n F dX7_reckonsTo_203 rfl ?_
                    obtain ⟨v30, e_v30, h⟩ := bnd h
                    refine G_getR F okX7 (f := 38) (by decide) q1262 rfl dX7_reckonsTo_204 e_v30 ?_
                    refine G_iload_n F dX7_reckonsTo_207 rfl ?_
                    refine G_iconst F (v := (1 : Int32)) dX7_reckonsTo_208 (by decide) ?_
                    refine G_isub F dX7_reckonsTo_209 ?_
                    refine G_iload F dX7_reckonsTo_210 rfl ?_
                    refine G_aload_n F dX7_reckonsTo_212 rfl ?_
                    obtain ⟨v31, e_v31, h⟩ := bnd h
                    refine G_getR F okX7 (f := 38) (by decide) q1262 rfl dX7_reckonsTo_213 e_v31 ?_
                    refine G_iload_n F dX7_reckonsTo_216 rfl ?_
                    refine G_iconst F (v := (1 : Int32)) dX7_reckonsTo_217 (by decide) ?_
                    refine G_isub F dX7_reckonsTo_218 ?_
                    obtain ⟨v32, e_v32, h⟩ := bnd h
                    refine G_iald F dX7_reckonsTo_219 e_v32 ?_
                    refine G_aload_n F dX7_reckonsTo_220 rfl ?_
                    obtain ⟨v33, e_v33, h⟩ := bnd h
                    refine G_getR F okX7 (f := 38) (by decide) q1262 rfl dX7_reckonsTo_221 e_v33 ?_
                    refine G_iload_n F dX7_reckonsTo_224 rfl ?_
                    obtain ⟨v34, e_v34, h⟩ := bnd h
                    refine G_iald F dX7_reckonsTo_225 e_v34 ?_
                    obtain ⟨v35, e_v35, h⟩ := bnd h
                    refine G_callSv F (As := [.inl (v4 / (1048576 : Int32)), .inl v32, .inl v34]) (st := [.inl ((s3_1 - (1 : Int32)) - (1 : Int32)), .inr v30]) (metX7_reckon X e_v35) (lw_S q1607 q1608 q109 q1609) hdfX7_reckon ⟨by omega, by decide⟩ rfl (Nat.le_of_ble_eq_true rfl) ⟨by omega, by omega⟩ dX7_reckonsTo_226 ?_
                    obtain ⟨m36, e_m36, h⟩ := bnd h
                    refine G_iast F dX7_reckonsTo_229 e_m36 ?_
                    refine G_goto F (tgt := 16) dX7_reckonsTo_230 (by decide) ?_
                    have hq_ := Option.some.inj h
                    have h := K17o _ hq_
                    have hq_ := Option.some.inj h
                    have h := K7o _ hq_
                    cases h
                    exact G_sub F (L2 := [some (.inr a0), none, some (.inl a2), some (.inl (s3_1 - (1 : Int32))), some (.inl ((260 : Int32) * (a1 / (260 : Int32)))), some (.inl (s5_1 + (1 : Int32))), none, none]) ⟨rfl, ⟨rfl, ⟨rfl, ⟨rfl, ⟨rfl, trivial⟩⟩⟩⟩⟩ (hP1 _ rfl)
                  · have h := itt c29 h
                    refine G_iconst F (v := (0 : Int32)) dX7_reckonsTo_201 (by decide) ?_
                    have hq_ := Option.some.inj h
                    have h := K17o _ hq_
                    have hq_ := Option.some.inj h
                    have h := K7o _ hq_
                    cases h
                    have h := KR1 _ (hE1 _ rfl)
                    cases h
                    exact G_iret F rfl (Nat.le_refl _) (Nat.le_refl _) rfl dX7_reckonsTo_202
                · have h := itf c26 h
                  refine G_iload F dX7_reckonsTo_185 rfl ?_
                  refine G_bipush F (v := (6 : Int32)) dX7_reckonsTo_187 (by decide) ?_
                  obtain ⟨p37, hp37, h⟩ := bnd h
                  have K37 : ∀ (_ : Unit), Sum.inl () = p37 → G X cx 8 (Qm X cx (some (.inl rv)) m_ nx 0 0) (0) (0) m1 (nx) [some (.inr a0), none, some (.inl a2), some (.inl (s3_1 - (1 : Int32))), some (.inl ((260 : Int32) * (a1 / (260 : Int32)))), some (.inl (s5_1 + (1 : Int32))), some (.inl (v4 / (1048576 : Int32))), none] [] 203 := by
                    intro _ hq
                    subst hq
                    try dsimp only at h
                    refine G_aload_n F dX7_reckonsTo_203 rfl ?_
                    obtain ⟨v38, e_v38, h⟩ := bnd h
                    refine G_getR F okX7 (f := 38) (by decide) q1262 rfl dX7_reckonsTo_204 e_v38 ?_
                    refine G_iload_n F dX7_reckonsTo_207 rfl ?_
                    refine G_iconst F (v := (1 : Int32)) dX7_reckonsTo_208 (by decide) ?_
                    refine G_isub F dX7_reckonsTo_209 ?_
                    refine G_iload F dX7_reckonsTo_210 rfl ?_
                    refine G_aload_n F dX7_reckonsTo_212 rfl ?_
                    obtain ⟨v39, e_v39, h⟩ := bnd h
                    refine G_getR F okX7 (f := 38) (by decide) q1262 rfl dX7_reckonsTo_213 e_v39 ?_
                    refine G_iload_n F dX7_reckonsTo_216 rfl ?_
                    refine G_iconst F (v := (1 : Int32)) dX7_reckonsTo_217 (by decide) ?_
                    refine G_isub F dX7_reckonsTo_218 ?_
                    obtain ⟨v40, e_v40, h⟩ := bnd h
                    refine G_iald F dX7_reckonsTo_219 e_v40 ?_
                    refine G_aload_n F dX7_reckonsTo_220 rfl ?_
                    obtain ⟨v41, e_v41, h⟩ := bnd h
                    refine G_getR F okX7 (f := 38) (by decide) q1262 rfl dX7_reckonsTo_221 e_v41 ?_
                    refine G_iload_n F dX7_reckonsTo_224 rfl ?_
                    obtain ⟨v42, e_v42, h⟩ := bnd h
                    refine G_iald F dX7_reckonsTo_225 e_v42 ?_
                    obtain ⟨v43, e_v43, h⟩ := bnd h
                    refine G_callSv F (As := [.inl (v4 / (1048576 : Int32)), .inl v40, .inl v42]) (st := [.inl ((s3_1 - (1 : Int32)) - (1 : Int32)), .inr v38]) (metX7_reckon X e_v43) (lw_S q1607 q1608 q109 q1609) hdfX7_reckon ⟨by omega, by decide⟩ rfl (Nat.le_of_ble_eq_true rfl) ⟨by omega, by omega⟩ dX7_reckonsTo_226 ?_
                    obtain ⟨m44, e_m44, h⟩ := bnd h
                    refine G_iast F dX7_reckonsTo_229 e_m44 ?_
                    refine G_goto F (tgt := 16) dX7_reckonsTo_230 (by decide) ?_
                    have hq_ := Option.some.inj h
                    have h := K17o _ hq_
                    have hq_ := Option.some.inj h
                    have h := K7o _ hq_
                    cases h
                    exact G_sub F (L2 := [some (.inr a0), none, some (.inl a2), some (.inl (s3_1 - (1 : Int32))), some (.inl ((260 : Int32) * (a1 / (260 : Int32)))), some (.inl (s5_1 + (1 : Int32))), none, none]) ⟨rfl, ⟨rfl, ⟨rfl, ⟨rfl, ⟨rfl, trivial⟩⟩⟩⟩⟩ (hP1 _ rfl)
                  have K37o : ∀ o, Sum.inr o = p37 → some o = some p17 := by
                    intro o hq
                    subst hq
                    exact h
                  have h := hp37
                  clear hp37
                  refine G_icmp_ne F (tgt := 203) dX7_reckonsTo_189 (by decide) (fun c45 => ?_) (fun c45 => ?_)
                  · have h := itf c45 h
                    have hq_ := Option.some.inj h
                    exact G_sub F (L2 := [some (.inr a0), none, some (.inl a2), some (.inl (s3_1 - (1 : Int32))), some (.inl ((260 : Int32) * (a1 / (260 : Int32)))), some (.inl (s5_1 + (1 : Int32))), some (.inl (v4 / (1048576 : Int32))), none]) ⟨rfl, ⟨rfl, ⟨rfl, ⟨rfl, ⟨rfl, ⟨rfl, trivial⟩⟩⟩⟩⟩⟩ (K37 () hq_)
                  · have h := itt c45 h
                    refine G_aload_n F dX7_reckonsTo_192 rfl ?_
                    obtain ⟨v46, e_v46, h⟩ := bnd h
                    refine G_getR F okX7 (f := 38) (by decide) q1262 rfl dX7_reckonsTo_193 e_v46 ?_
                    refine G_iload_n F dX7_reckonsTo_196 rfl ?_
                    obtain ⟨v47, e_v47, h⟩ := bnd h
                    refine G_iald F dX7_reckonsTo_197 e_v47 ?_
                    refine G_if_ne F (tgt := 203) dX7_reckonsTo_198 (by decide) (fun c48 => ?_) (fun c48 => ?_)
                    · have h := itf c48 h
                      have hq_ := Option.some.inj h
                      exact G_sub F (L2 := [some (.inr a0), none, some (.inl a2), some (.inl (s3_1 - (1 : Int32))), some (.inl ((260 : Int32) * (a1 / (260 : Int32)))), some (.inl (s5_1 + (1 : Int32))), some (.inl (v4 / (1048576 : Int32))), none]) ⟨rfl, ⟨rfl, ⟨rfl, ⟨rfl, ⟨rfl, ⟨rfl, trivial⟩⟩⟩⟩⟩⟩ (K37 () hq_)
                    · have h := itt c48 h
                      refine G_iconst F (v := (0 : Int32)) dX7_reckonsTo_201 (by decide) ?_
                      have hq_ := Option.some.inj h
                      have h := K37o _ hq_
                      have hq_ := Option.some.inj h
                      have h := K17o _ hq_
                      have hq_ := Option.some.inj h
                      have h := K7o _ hq_
                      cases h
                      have h := KR1 _ (hE1 _ rfl)
                      cases h
                      exact G_iret F rfl (Nat.le_refl _) (Nat.le_refl _) rfl dX7_reckonsTo_202
              · have h := itt c25 h
                have hq_ := Option.some.inj h
                exact G_sub F (L2 := [some (.inr a0), none, some (.inl a2), some (.inl s3_1), some (.inl ((260 : Int32) * (a1 / (260 : Int32)))), some (.inl (s5_1 + (1 : Int32))), some (.inl (v4 / (1048576 : Int32))), some (.inl (jrem v6 (1048576 : Int32)))]) ⟨rfl, ⟨rfl, ⟨rfl, ⟨rfl, ⟨rfl, ⟨rfl, ⟨rfl, trivial⟩⟩⟩⟩⟩⟩⟩ (K17 () hq_)
          · have h := itt c16 h
            refine G_aload_n F dX7_reckonsTo_100 rfl ?_
            obtain ⟨v49, e_v49, h⟩ := bnd h
            refine G_getR F okX7 (f := 38) (by decide) q1262 rfl dX7_reckonsTo_101 e_v49 ?_
            refine G_iload_n F dX7_reckonsTo_104 rfl ?_
            refine G_iconst F (v := (1 : Int32)) dX7_reckonsTo_105 (by decide) ?_
            refine G_isub F dX7_reckonsTo_106 ?_
            refine G_iconst F (v := (1 : Int32)) dX7_reckonsTo_107 (by decide) ?_
            refine G_aload_n F dX7_reckonsTo_108 rfl ?_
            obtain ⟨v50, e_v50, h⟩ := bnd h
            refine G_getR F okX7 (f := 38) (by decide) q1262 rfl dX7_reckonsTo_109 e_v50 ?_
            refine G_iload_n F dX7_reckonsTo_112 rfl ?_
            refine G_iconst F (v := (1 : Int32)) dX7_reckonsTo_113 (by decide) ?_
            refine G_isub F dX7_reckonsTo_114 ?_
            obtain ⟨v51, e_v51, h⟩ := bnd h
            refine G_iald F dX7_reckonsTo_115 e_v51 ?_
            refine G_isub F dX7_reckonsTo_116 ?_
            obtain ⟨m52, e_m52, h⟩ := bnd h
            refine G_iast F dX7_reckonsTo_117 e_m52 ?_
            refine G_goto F (tgt := 230) dX7_reckonsTo_118 (by decide) ?_
            refine G_goto F (tgt := 16) dX7_reckonsTo_230 (by decide) ?_
            have hq_ := Option.some.inj h
            have h := K7o _ hq_
            cases h
            exact G_sub F (L2 := [some (.inr a0), none, some (.inl a2), some (.inl s3_1), some (.inl ((260 : Int32) * (a1 / (260 : Int32)))), some (.inl (s5_1 + (1 : Int32))), none, none]) ⟨rfl, ⟨rfl, ⟨rfl, ⟨rfl, ⟨rfl, trivial⟩⟩⟩⟩⟩ (hP1 _ rfl)
        · have h := itt c15 h
          have hq_ := Option.some.inj h
          exact G_sub F (L2 := [some (.inr a0), none, some (.inl a2), some (.inl s3_1), some (.inl ((260 : Int32) * (a1 / (260 : Int32)))), some (.inl (s5_1 + (1 : Int32))), some (.inl (v4 / (1048576 : Int32))), some (.inl (jrem v6 (1048576 : Int32)))]) ⟨rfl, ⟨rfl, ⟨rfl, ⟨rfl, ⟨rfl, ⟨rfl, ⟨rfl, trivial⟩⟩⟩⟩⟩⟩⟩ (K7 () hq_)
  have hI := iter_ok (fun (s : (Int32 × Int32 × Hp)) => match s with | (s3_1, s5_1, m1) => G X cx 8 (Qm X cx (some (.inl rv)) m_ nx 0 0) (0) (0) m1 (nx) [some (.inr a0), none, some (.inl a2), some (.inl s3_1), some (.inl ((260 : Int32) * (a1 / (260 : Int32)))), some (.inl s5_1), none, none] [] 16) (fun q => q = r1) KB1 _ _ _ hr1 rfl
  exact G_sub F (L2 := [some (.inr a0), none, some (.inl a2), some (.inl (0 : Int32)), some (.inl ((260 : Int32) * (a1 / (260 : Int32)))), some (.inl a1), none, none]) ⟨rfl, ⟨rfl, ⟨rfl, ⟨rfl, ⟨rfl, trivial⟩⟩⟩⟩⟩ hI

theorem metX7_byLaw (X : Gx) {m : Hp} {nx : Nat} {a0 : Option Nat} {a1 : Int32} {a2 : Int32} {rv : Int32} {m_ : Hp} (h : fX7_byLaw m a0 a1 a2 = some (rv, m_)) : Con X (3) yX7_byLaw cX7_byLaw 5 ((Option.some FieldType.int)) [.inr a0, .inl a1, .inl a2] m nx (some (.inl rv)) m_ 0 0 := by
  refine Con.of (own := RX7) (nm := "byLaw") (L := [some (.inr a0), some (.inl a1), some (.inl a2), none, none]) (by decide +kernel) rfl rfl (Nat.le_of_ble_eq_true rfl) (ent_of 2 rfl) ?_
  intro cx F
  refine G_iconst F (v := (0 : Int32)) dX7_byLaw_0 (by decide) ?_
  refine G_istore_n F (L2 := [some (.inr a0), some (.inl a1), some (.inl a2), some (.inl (0 : Int32)), none]) dX7_byLaw_1 (by decide) rfl ?_
  obtain ⟨r1, hr1, h⟩ := bnd h
  have KE1 : ∀ (m22 : Hp), Sum.inl m22 = r1 → G X cx 5 (Qm X cx (some (.inl rv)) m_ nx 0 0) (0) (0) m22 (nx) [none, none, none, none, none] [] 89 := by
    intro m22 hq
    subst hq
    try dsimp only at h
    refine G_iconst F (v := (0 : Int32)) dX7_byLaw_89 (by decide) ?_
    cases h
    exact G_iret F rfl (Nat.le_refl _) (Nat.le_refl _) rfl dX7_byLaw_90
  have KR1 : ∀ q, Sum.inr q = r1 → some q = some (rv, m_) := by
    intro q hq
    subst hq
    exact h
  have KB1 : ∀ s o1, fX7_byLaw_L2 a0 a1 a2 s = some o1 → (∀ s', o1 = Sum.inl s' → (fun (s : (Int32 × Hp)) => match s with | (s3_1, m1) => G X cx 5 (Qm X cx (some (.inl rv)) m_ nx 0 0) (0) (0) m1 (nx) [some (.inr a0), some (.inl a1), some (.inl a2), some (.inl s3_1), none] [] 2) s') → (∀ q, o1 = Sum.inr q → q = r1) → (fun (s : (Int32 × Hp)) => match s with | (s3_1, m1) => G X cx 5 (Qm X cx (some (.inl rv)) m_ nx 0 0) (0) (0) m1 (nx) [some (.inr a0), some (.inl a1), some (.inl a2), some (.inl s3_1), none] [] 2) s := by
    intro s o1 h hP1 hE1
    obtain ⟨s3_1, m1⟩ := s
    try dsimp only at hP1 hE1 ⊢
    refine G_iload_n F dX7_byLaw_2 rfl ?_
    refine G_aload_n F dX7_byLaw_3 rfl ?_
    obtain ⟨v2, e_v2, h⟩ := bnd h
    refine G_getI F okX7 (f := 26) (by decide) q1250 rfl dX7_byLaw_4 e_v2 ?_
    refine G_icmp_ge F (tgt := 89) dX7_byLaw_7 (by decide) (fun c3 => ?_) (fun c3 => ?_)
    · have h := itt c3 h
      cases h
      exact G_sub F (L2 := [none, none, none, none, none]) trivial (KE1 _ (hE1 _ rfl))
    · have h := itf c3 h
      refine G_aload_n F dX7_byLaw_10 rfl ?_
      obtain ⟨v4, e_v4, h⟩ := bnd h
      refine G_getR F okX7 (f := 34) (by decide) q1258 rfl dX7_byLaw_11 e_v4 ?_
      refine G_iload_n F dX7_byLaw_14 rfl ?_
      obtain ⟨v5, e_v5, h⟩ := bnd h
      refine G_iald F dX7_byLaw_15 e_v5 ?_
      refine G_iload_n F dX7_byLaw_16 rfl ?_
      refine G_icmp_ne F (tgt := 83) dX7_byLaw_17 (by decide) (fun c6 => ?_) (fun c6 => ?_)
      · have h := itf c6 h
        refine G_iinc F (v := (s3_1 + (1 : Int32))) (L2 := [some (.inr a0), some (.inl a1), some (.inl a2), some (.inl (s3_1 + (1 : Int32))), none]) dX7_byLaw_83 (by decide) rfl rfl rfl ?_
        refine G_goto F (tgt := 2) dX7_byLaw_86 (by decide) ?_
        cases h
        exact G_sub F (L2 := [some (.inr a0), some (.inl a1), some (.inl a2), some (.inl (s3_1 + (1 : Int32))), none]) ⟨rfl, ⟨rfl, ⟨rfl, ⟨rfl, trivial⟩⟩⟩⟩ (hP1 _ rfl)
      · have h := itt c6 h
        refine G_aload_n F dX7_byLaw_20 rfl ?_
        refine G_aload_n F dX7_byLaw_21 rfl ?_
        obtain ⟨v7, e_v7, h⟩ := bnd h
        refine G_getR F okX7 (f := 36) (by decide) q1260 rfl dX7_byLaw_22 e_v7 ?_
        refine G_iload_n F dX7_byLaw_25 rfl ?_
        obtain ⟨v8, e_v8, h⟩ := bnd h
        refine G_iald F dX7_byLaw_26 e_v8 ?_
        refine G_aload_n F dX7_byLaw_27 rfl ?_
        obtain ⟨v9, e_v9, h⟩ := bnd h
        refine G_getR F okX7 (f := 37) (by decide) q1261 rfl dX7_byLaw_28 e_v9 ?_
        refine G_iload_n F dX7_byLaw_31 rfl ?_
        obtain ⟨v10, e_v10, h⟩ := bnd h
        refine G_iald F dX7_byLaw_32 e_v10 ?_
        obtain ⟨⟨v11, m12⟩, e_v11, h⟩ := bnd h
        obtain ⟨hc_v11, e_v11⟩ := hp_on_of e_v11
        refine G_callVv F (As := [.inl v8, .inl v10]) (st := []) (metX7_reckonsTo X e_v11) hc_v11 rfl rfl (lw_V q1603 q1605 qs76 q109 q1606) hdfX7_reckonsTo ⟨by omega, by decide⟩ rfl (Nat.le_of_ble_eq_true rfl) ⟨by omega, by omega⟩ dX7_byLaw_33 ?_
        refine G_iconst F (v := (1 : Int32)) dX7_byLaw_36 (by decide) ?_
        refine G_icmp_eq F (tgt := 43) dX7_byLaw_37 (by decide) (fun c13 => ?_) (fun c13 => ?_)
        · have h := itt c13 h
          refine G_aload_n F dX7_byLaw_43 rfl ?_
          refine G_aload_n F dX7_byLaw_44 rfl ?_
          obtain ⟨v14, e_v14, h⟩ := bnd h
          refine G_getR F okX7 (f := 35) (by decide) q1259 rfl dX7_byLaw_45 e_v14 ?_
          refine G_iload_n F dX7_byLaw_48 rfl ?_
          obtain ⟨v15, e_v15, h⟩ := bnd h
          refine G_iald F dX7_byLaw_49 e_v15 ?_
          refine G_aload_n F dX7_byLaw_50 rfl ?_
          obtain ⟨v16, e_v16, h⟩ := bnd h
          refine G_getR F okX7 (f := 36) (by decide) q1260 rfl dX7_byLaw_51 e_v16 ?_
          refine G_iload_n F dX7_byLaw_54 rfl ?_
          obtain ⟨v17, e_v17, h⟩ := bnd h
          refine G_iald F dX7_byLaw_55 e_v17 ?_
          obtain ⟨⟨v18, m19⟩, e_v18, h⟩ := bnd h
          obtain ⟨hc_v18, e_v18⟩ := hp_on_of e_v18
          refine G_callVv F (As := [.inl v15, .inl v17]) (st := []) (metX7_reckonsTo X e_v18) hc_v18 rfl rfl (lw_V q1603 q1605 qs76 q109 q1606) hdfX7_reckonsTo ⟨by omega, by decide⟩ rfl (Nat.le_of_ble_eq_true rfl) ⟨by omega, by omega⟩ dX7_byLaw_56 ?_
          refine G_istore F (L2 := [some (.inr a0), some (.inl a1), some (.inl a2), some (.inl s3_1), some (.inl v18)]) dX7_byLaw_59 (by decide) rfl ?_
          refine G_iload F dX7_byLaw_61 rfl ?_
          refine G_if_ge F (tgt := 70) dX7_byLaw_63 (by decide) (fun c20 => ?_) (fun c20 => ?_)
          · have h := itt c20 h
            refine G_iload F dX7_byLaw_70 rfl ?_
            refine G_iload_n F dX7_byLaw_72 rfl ?_
            refine G_icmp_le F (tgt := 80) dX7_byLaw_73 (by decide) (fun c21 => ?_) (fun c21 => ?_)
            · have h := itt c21 h
              refine G_iload F dX7_byLaw_80 rfl ?_
              cases h
              have h := KR1 _ (hE1 _ rfl)
              cases h
              exact G_iret F rfl (Nat.le_refl _) (Nat.le_refl _) rfl dX7_byLaw_82
            · have h := itf c21 h
              refine G_iload_n F dX7_byLaw_76 rfl ?_
              refine G_goto F (tgt := 82) dX7_byLaw_77 (by decide) ?_
              cases h
              have h := KR1 _ (hE1 _ rfl)
              cases h
              exact G_iret F rfl (Nat.le_refl _) (Nat.le_refl _) rfl dX7_byLaw_82
          · have h := itf c20 h
            refine G_iconst F (v := (0 : Int32)) dX7_byLaw_66 (by decide) ?_
            refine G_goto F (tgt := 82) dX7_byLaw_67 (by decide) ?_
            cases h
            have h := KR1 _ (hE1 _ rfl)
            cases h
            exact G_iret F rfl (Nat.le_refl _) (Nat.le_refl _) rfl dX7_byLaw_82
        · have h := itf c13 h
          refine G_goto F (tgt := 83) dX7_byLaw_40 (by decide) ?_
          refine G_iinc F (v := (s3_1 + (1 : Int32))) (L2 := [some (.inr a0), some (.inl a1), some (.inl a2), some (.inl (s3_1 + (1 : Int32))), none]) dX7_byLaw_83 (by decide) rfl rfl rfl ?_
          refine G_goto F (tgt := 2) dX7_byLaw_86 (by decide) ?_
          cases h
          exact G_sub F (L2 := [some (.inr a0), some (.inl a1), some (.inl a2), some (.inl (s3_1 + (1 : Int32))), none]) ⟨rfl, ⟨rfl, ⟨rfl, ⟨rfl, trivial⟩⟩⟩⟩ (hP1 _ rfl)
  have hI := iter_ok (fun (s : (Int32 × Hp)) => match s with | (s3_1, m1) => G X cx 5 (Qm X cx (some (.inl rv)) m_ nx 0 0) (0) (0) m1 (nx) [some (.inr a0), some (.inl a1), some (.inl a2), some (.inl s3_1), none] [] 2) (fun q => q = r1) KB1 _ _ _ hr1 rfl
  exact G_sub F (L2 := [some (.inr a0), some (.inl a1), some (.inl a2), some (.inl (0 : Int32)), none]) ⟨rfl, ⟨rfl, ⟨rfl, ⟨rfl, trivial⟩⟩⟩⟩ hI

theorem metX7_holdsAny (X : Gx) {m : Hp} {nx : Nat} {a0 : Option Nat} {a1 : Int32} {rv : Int32} {m_ : Hp} (h : fX7_holdsAny m a0 a1 = some (rv, m_)) : Con X (3) yX7_holdsAny cX7_holdsAny 3 ((Option.some FieldType.boolean)) [.inr a0, .inl a1] m nx (some (.inl rv)) m_ 0 0 := by
  refine Con.of (own := RX7) (nm := "holdsAny") (L := [some (.inr a0), some (.inl a1), none]) (by decide +kernel) rfl rfl (Nat.le_of_ble_eq_true rfl) (ent_of 1 rfl) ?_
  intro cx F
  refine G_iconst F (v := (0 : Int32)) dX7_holdsAny_0 (by decide) ?_
  refine G_istore_n F (L2 := [some (.inr a0), some (.inl a1), some (.inl (0 : Int32))]) dX7_holdsAny_1 (by decide) rfl ?_
  obtain ⟨r1, hr1, h⟩ := bnd h
  have KE1 : ∀ (m14 : Hp), Sum.inl m14 = r1 → G X cx 3 (Qm X cx (some (.inl rv)) m_ nx 0 0) (0) (0) m14 (nx) [none, none, none] [] 48 := by
    intro m14 hq
    subst hq
    try dsimp only at h
    refine G_iconst F (v := (0 : Int32)) dX7_holdsAny_48 (by decide) ?_
    cases h
    exact G_zret F rfl (Or.inl rfl) (Nat.le_refl _) (Nat.le_refl _) rfl dX7_holdsAny_49
  have KR1 : ∀ q, Sum.inr q = r1 → some q = some (rv, m_) := by
    intro q hq
    subst hq
    exact h
  have KB1 : ∀ s o1, fX7_holdsAny_L2 a0 a1 s = some o1 → (∀ s', o1 = Sum.inl s' → (fun (s : (Int32 × Hp)) => match s with | (s2_1, m1) => G X cx 3 (Qm X cx (some (.inl rv)) m_ nx 0 0) (0) (0) m1 (nx) [some (.inr a0), some (.inl a1), some (.inl s2_1)] [] 2) s') → (∀ q, o1 = Sum.inr q → q = r1) → (fun (s : (Int32 × Hp)) => match s with | (s2_1, m1) => G X cx 3 (Qm X cx (some (.inl rv)) m_ nx 0 0) (0) (0) m1 (nx) [some (.inr a0), some (.inl a1), some (.inl s2_1)] [] 2) s := by
    intro s o1 h hP1 hE1
    obtain ⟨s2_1, m1⟩ := s
    try dsimp only at hP1 hE1 ⊢
    refine G_iload_n F dX7_holdsAny_2 rfl ?_
    refine G_aload_n F dX7_holdsAny_3 rfl ?_
    obtain ⟨v2, e_v2, h⟩ := bnd h
    refine G_getI F okX7 (f := 26) (by decide) q1250 rfl dX7_holdsAny_4 e_v2 ?_
    refine G_icmp_ge F (tgt := 48) dX7_holdsAny_7 (by decide) (fun c3 => ?_) (fun c3 => ?_)
    · have h := itt c3 h
      cases h
      exact G_sub F (L2 := [none, none, none]) trivial (KE1 _ (hE1 _ rfl))
    · have h := itf c3 h
      refine G_aload_n F dX7_holdsAny_10 rfl ?_
      obtain ⟨v4, e_v4, h⟩ := bnd h
      refine G_getR F okX7 (f := 34) (by decide) q1258 rfl dX7_holdsAny_11 e_v4 ?_
      refine G_iload_n F dX7_holdsAny_14 rfl ?_
      obtain ⟨v5, e_v5, h⟩ := bnd h
      refine G_iald F dX7_holdsAny_15 e_v5 ?_
      refine G_iload_n F dX7_holdsAny_16 rfl ?_
      refine G_icmp_ne F (tgt := 42) dX7_holdsAny_17 (by decide) (fun c6 => ?_) (fun c6 => ?_)
      · have h := itf c6 h
        refine G_iinc F (v := (s2_1 + (1 : Int32))) (L2 := [some (.inr a0), some (.inl a1), some (.inl (s2_1 + (1 : Int32)))]) dX7_holdsAny_42 (by decide) rfl rfl rfl ?_
        refine G_goto F (tgt := 2) dX7_holdsAny_45 (by decide) ?_
        cases h
        exact G_sub F (L2 := [some (.inr a0), some (.inl a1), some (.inl (s2_1 + (1 : Int32)))]) ⟨rfl, ⟨rfl, ⟨rfl, trivial⟩⟩⟩ (hP1 _ rfl)
      · have h := itt c6 h
        refine G_aload_n F dX7_holdsAny_20 rfl ?_
        refine G_aload_n F dX7_holdsAny_21 rfl ?_
        obtain ⟨v7, e_v7, h⟩ := bnd h
        refine G_getR F okX7 (f := 36) (by decide) q1260 rfl dX7_holdsAny_22 e_v7 ?_
        refine G_iload_n F dX7_holdsAny_25 rfl ?_
        obtain ⟨v8, e_v8, h⟩ := bnd h
        refine G_iald F dX7_holdsAny_26 e_v8 ?_
        refine G_aload_n F dX7_holdsAny_27 rfl ?_
        obtain ⟨v9, e_v9, h⟩ := bnd h
        refine G_getR F okX7 (f := 37) (by decide) q1261 rfl dX7_holdsAny_28 e_v9 ?_
        refine G_iload_n F dX7_holdsAny_31 rfl ?_
        obtain ⟨v10, e_v10, h⟩ := bnd h
        refine G_iald F dX7_holdsAny_32 e_v10 ?_
        obtain ⟨⟨v11, m12⟩, e_v11, h⟩ := bnd h
        obtain ⟨hc_v11, e_v11⟩ := hp_on_of e_v11
        refine G_callVv F (As := [.inl v8, .inl v10]) (st := []) (metX7_reckonsTo X e_v11) hc_v11 rfl rfl (lw_V q1603 q1605 qs76 q109 q1606) hdfX7_reckonsTo ⟨by omega, by decide⟩ rfl (Nat.le_of_ble_eq_true rfl) ⟨by omega, by omega⟩ dX7_holdsAny_33 ?_
        refine G_iconst F (v := (1 : Int32)) dX7_holdsAny_36 (by decide) ?_
        refine G_icmp_ne F (tgt := 42) dX7_holdsAny_37 (by decide) (fun c13 => ?_) (fun c13 => ?_)
        · have h := itf c13 h
          refine G_iinc F (v := (s2_1 + (1 : Int32))) (L2 := [some (.inr a0), some (.inl a1), some (.inl (s2_1 + (1 : Int32)))]) dX7_holdsAny_42 (by decide) rfl rfl rfl ?_
          refine G_goto F (tgt := 2) dX7_holdsAny_45 (by decide) ?_
          cases h
          exact G_sub F (L2 := [some (.inr a0), some (.inl a1), some (.inl (s2_1 + (1 : Int32)))]) ⟨rfl, ⟨rfl, ⟨rfl, trivial⟩⟩⟩ (hP1 _ rfl)
        · have h := itt c13 h
          refine G_iconst F (v := (1 : Int32)) dX7_holdsAny_40 (by decide) ?_
          cases h
          have h := KR1 _ (hE1 _ rfl)
          cases h
          exact G_zret F rfl (Or.inr rfl) (Nat.le_refl _) (Nat.le_refl _) rfl dX7_holdsAny_41
  have hI := iter_ok (fun (s : (Int32 × Hp)) => match s with | (s2_1, m1) => G X cx 3 (Qm X cx (some (.inl rv)) m_ nx 0 0) (0) (0) m1 (nx) [some (.inr a0), some (.inl a1), some (.inl s2_1)] [] 2) (fun q => q = r1) KB1 _ _ _ hr1 rfl
  exact G_sub F (L2 := [some (.inr a0), some (.inl a1), some (.inl (0 : Int32))]) ⟨rfl, ⟨rfl, ⟨rfl, trivial⟩⟩⟩ hI

theorem metX7_isLetter (X : Gx) {m : Hp} {nx : Nat} {a0 : Option Nat} {rv : Int32} (h : fX7_isLetter m a0 = some rv) : Con X (2) yX7_isLetter cX7_isLetter 1 ((Option.some FieldType.boolean)) [.inr a0] m nx (some (.inl rv)) m 0 0 := by
  refine Con.of (own := RX7) (nm := "isLetter") (L := [some (.inr a0)]) (by decide +kernel) rfl rfl (Nat.le_of_ble_eq_true rfl) (ent_of 0 rfl) ?_
  intro cx F
  refine G_aload_n F dX7_isLetter_0 rfl ?_
  obtain ⟨v1, e_v1, h⟩ := bnd h
  obtain ⟨hc_v1, e_v1⟩ := hp_on_of e_v1
  refine G_callVv F (As := []) (st := []) (metX7_here X e_v1) hc_v1 rfl rfl (lw_V q1460 q1462 qs46 q109 q1463) hdfX7_here ⟨by omega, by decide⟩ rfl (Nat.le_of_ble_eq_true rfl) ⟨by omega, by omega⟩ dX7_isLetter_1 ?_
  refine G_bipush F (v := (97 : Int32)) dX7_isLetter_4 (by decide) ?_
  refine G_isub F dX7_isLetter_6 ?_
  refine G_iconst F (v := (0 : Int32)) dX7_isLetter_7 (by decide) ?_
  refine G_bipush F (v := (9 : Int32)) dX7_isLetter_8 (by decide) ?_
  obtain ⟨v2, e_v2, h⟩ := bnd h
  refine G_callSv F (As := [.inl (v1 - (97 : Int32)), .inl (0 : Int32), .inl (9 : Int32)]) (st := []) (metX7_in X e_v2) (lw_S q1427 q1428 q109 q1429) hdfX7_in ⟨by omega, by decide⟩ rfl (Nat.le_of_ble_eq_true rfl) ⟨by omega, by omega⟩ dX7_isLetter_10 ?_
  obtain ⟨z3, e_z3, h⟩ := bnd h
  have hz_ := hp_z_of e_z3
  cases h
  exact G_zretz F rfl hz_ (Nat.le_refl _) (Nat.le_refl _) rfl dX7_isLetter_13

theorem metX7_readsWithin (X : Gx) {m : Hp} {nx : Nat} {a0 : Option Nat} {a1 : Int32} {a2 : Int32} {a3 : Int32} {rv : Int32} {m_ : Hp} (h : fX7_readsWithin m a0 a1 a2 a3 = some (rv, m_)) : Con X (3) yX7_readsWithin cX7_readsWithin 5 ((Option.some FieldType.boolean)) [.inr a0, .inl a1, .inl a2, .inl a3] m nx (some (.inl rv)) m_ 0 0 := by
  refine Con.of (own := RX7) (nm := "readsWithin") (L := [some (.inr a0), some (.inl a1), some (.inl a2), some (.inl a3), none]) (by decide +kernel) rfl rfl (Nat.le_of_ble_eq_true rfl) (ent_of 1 rfl) ?_
  intro cx F
  refine G_aload_n F dX7_readsWithin_0 rfl ?_
  obtain ⟨v1, e_v1, h⟩ := bnd h
  refine G_getI F okX7 (f := 18) (by decide) q1242 rfl dX7_readsWithin_1 e_v1 ?_
  refine G_istore F (L2 := [some (.inr a0), some (.inl a1), some (.inl a2), some (.inl a3), some (.inl v1)]) dX7_readsWithin_4 (by decide) rfl ?_
  refine G_aload_n F dX7_readsWithin_6 rfl ?_
  obtain ⟨v2, e_v2, h⟩ := bnd h
  obtain ⟨hc_v2, e_v2⟩ := hp_on_of e_v2
  refine G_callVv F (As := []) (st := []) (metX7_isDigit X e_v2) hc_v2 rfl rfl (lw_V q1481 q1483 qs51 q109 q1484) hdfX7_isDigit ⟨by omega, by decide⟩ rfl (Nat.le_of_ble_eq_true rfl) ⟨by omega, by omega⟩ dX7_readsWithin_7 ?_
  refine G_if_ne F (tgt := 23) dX7_readsWithin_10 (by decide) (fun c3 => ?_) (fun c3 => ?_)
  · have h := itf c3 h
    refine G_aload_n F dX7_readsWithin_23 rfl ?_
    refine G_iconst F (v := (0 : Int32)) dX7_readsWithin_24 (by decide) ?_
    obtain ⟨m4, e_m4, h⟩ := bnd h
    refine G_putV F okX7 (f := 21) (by decide) q1245 rfl rfl dX7_readsWithin_25 (vfit_int _) e_m4 ?_
    obtain ⟨r5, hr5, h⟩ := bnd h
    have KE5 : ∀ (m19 : Hp), Sum.inl m19 = r5 → G X cx 5 (Qm X cx (some (.inl rv)) m_ nx 0 0) (0) (0) m19 (nx) [some (.inr a0), none, some (.inl a2), some (.inl a3), some (.inl v1)] [] 88 := by
      intro m19 hq
      subst hq
      try dsimp only at h
      refine G_aload_n F dX7_readsWithin_88 rfl ?_
      obtain ⟨v20, e_v20, h⟩ := bnd h
      refine G_getI F okX7 (f := 21) (by decide) q1245 rfl dX7_readsWithin_89 e_v20 ?_
      refine G_iload_n F dX7_readsWithin_92 rfl ?_
      refine G_iload_n F dX7_readsWithin_93 rfl ?_
      obtain ⟨v21, e_v21, h⟩ := bnd h
      refine G_callSv F (As := [.inl v20, .inl a2, .inl a3]) (st := []) (metX7_in X e_v21) (lw_S q1427 q1428 q109 q1429) hdfX7_in ⟨by omega, by decide⟩ rfl (Nat.le_of_ble_eq_true rfl) ⟨by omega, by omega⟩ dX7_readsWithin_94 ?_
      refine G_if_ne F (tgt := 110) dX7_readsWithin_97 (by decide) (fun c22 => ?_) (fun c22 => ?_)
      · have h := itf c22 h
        refine G_iconst F (v := (1 : Int32)) dX7_readsWithin_110 (by decide) ?_
        refine G_goto F (tgt := 115) dX7_readsWithin_111 (by decide) ?_
        cases h
        exact G_zret F rfl (Or.inr rfl) (Nat.le_refl _) (Nat.le_refl _) rfl dX7_readsWithin_115
      · have h := itt c22 h
        refine G_aload_n F dX7_readsWithin_100 rfl ?_
        refine G_iconst F (v := (3 : Int32)) dX7_readsWithin_101 (by decide) ?_
        refine G_iload F dX7_readsWithin_102 rfl ?_
        obtain ⟨⟨v23, m24⟩, e_v23, h⟩ := bnd h
        obtain ⟨hc_v23, e_v23⟩ := hp_on_of e_v23
        refine G_callVv F (As := [.inl (3 : Int32), .inl v1]) (st := []) (metX7_wrongAt X e_v23) hc_v23 rfl rfl (lw_V q1464 q1466 qs47 q109 q1467) hdfX7_wrongAt ⟨by omega, by decide⟩ rfl (Nat.le_of_ble_eq_true rfl) ⟨by omega, by omega⟩ dX7_readsWithin_104 ?_
        refine G_if_eq F (tgt := 114) dX7_readsWithin_107 (by decide) (fun c25 => ?_) (fun c25 => ?_)
        · have h := itt c25 h
          refine G_iconst F (v := (0 : Int32)) dX7_readsWithin_114 (by decide) ?_
          cases h
          exact G_zret F rfl (Or.inl rfl) (Nat.le_refl _) (Nat.le_refl _) rfl dX7_readsWithin_115
        · have h := itf c25 h
          refine G_iconst F (v := (1 : Int32)) dX7_readsWithin_110 (by decide) ?_
          refine G_goto F (tgt := 115) dX7_readsWithin_111 (by decide) ?_
          cases h
          exact G_zret F rfl (Or.inr rfl) (Nat.le_refl _) (Nat.le_refl _) rfl dX7_readsWithin_115
    have KR5 : ∀ q, Sum.inr q = r5 → some q = some (rv, m_) := by
      intro q hq
      subst hq
      exact h
    have KB5 : ∀ s o5, fX7_readsWithin_L28 a0 a1 a2 a3 v1 s = some o5 → (∀ s', o5 = Sum.inl s' → (fun (s : Hp) => match s with | m5 => G X cx 5 (Qm X cx (some (.inl rv)) m_ nx 0 0) (0) (0) m5 (nx) [some (.inr a0), some (.inl a1), some (.inl a2), some (.inl a3), some (.inl v1)] [] 28) s') → (∀ q, o5 = Sum.inr q → q = r5) → (fun (s : Hp) => match s with | m5 => G X cx 5 (Qm X cx (some (.inl rv)) m_ nx 0 0) (0) (0) m5 (nx) [some (.inr a0), some (.inl a1), some (.inl a2), some (.inl a3), some (.inl v1)] [] 28) s := by
      intro s o5 h hP5 hE5
      obtain ⟨m5, hs_⟩ : ∃ x, x = s := ⟨_, rfl⟩
      subst hs_
      try dsimp only at hP5 hE5 ⊢
      refine G_aload_n F dX7_readsWithin_28 rfl ?_
      obtain ⟨v6, e_v6, h⟩ := bnd h
      obtain ⟨hc_v6, e_v6⟩ := hp_on_of e_v6
      refine G_callVv F (As := []) (st := []) (metX7_isDigit X e_v6) hc_v6 rfl rfl (lw_V q1481 q1483 qs51 q109 q1484) hdfX7_isDigit ⟨by omega, by decide⟩ rfl (Nat.le_of_ble_eq_true rfl) ⟨by omega, by omega⟩ dX7_readsWithin_29 ?_
      refine G_if_eq F (tgt := 88) dX7_readsWithin_32 (by decide) (fun c7 => ?_) (fun c7 => ?_)
      · have h := itt c7 h
        cases h
        exact G_sub F (L2 := [some (.inr a0), none, some (.inl a2), some (.inl a3), some (.inl v1)]) ⟨rfl, ⟨rfl, ⟨rfl, ⟨rfl, trivial⟩⟩⟩⟩ (KE5 _ (hE5 _ rfl))
      · have h := itf c7 h
        refine G_aload_n F dX7_readsWithin_35 rfl ?_
        obtain ⟨v8, e_v8, h⟩ := bnd h
        refine G_getI F okX7 (f := 18) (by decide) q1242 rfl dX7_readsWithin_36 e_v8 ?_
        refine G_iload F dX7_readsWithin_39 rfl ?_
        refine G_iload_n F dX7_readsWithin_41 rfl ?_
        refine G_iadd F dX7_readsWithin_42 ?_
        refine G_icmp_ne F (tgt := 56) dX7_readsWithin_43 (by decide) (fun c9 => ?_) (fun c9 => ?_)
        · have h := itf c9 h
          refine G_aload_n F dX7_readsWithin_56 rfl ?_
          refine G_bipush F (v := (10 : Int32)) dX7_readsWithin_57 (by decide) ?_
          refine G_aload_n F dX7_readsWithin_59 rfl ?_
          obtain ⟨v10, e_v10, h⟩ := bnd h
          refine G_getI F okX7 (f := 21) (by decide) q1245 rfl dX7_readsWithin_60 e_v10 ?_
          refine G_imul F dX7_readsWithin_63 ?_
          refine G_aload_n F dX7_readsWithin_64 rfl ?_
          obtain ⟨v11, e_v11, h⟩ := bnd h
          obtain ⟨hc_v11, e_v11⟩ := hp_on_of e_v11
          refine G_callVv F (As := []) (st := [.inl ((10 : Int32) * v10), .inr a0]) (metX7_here X e_v11) hc_v11 rfl rfl (lw_V q1460 q1462 qs46 q109 q1463) hdfX7_here ⟨by omega, by decide⟩ rfl (Nat.le_of_ble_eq_true rfl) ⟨by omega, by omega⟩ dX7_readsWithin_65 ?_
          refine G_iadd F dX7_readsWithin_68 ?_
          refine G_bipush F (v := (48 : Int32)) dX7_readsWithin_69 (by decide) ?_
          refine G_isub F dX7_readsWithin_71 ?_
          obtain ⟨m12, e_m12, h⟩ := bnd h
          refine G_putV F okX7 (f := 21) (by decide) q1245 rfl rfl dX7_readsWithin_72 (vfit_int _) e_m12 ?_
          refine G_aload_n F dX7_readsWithin_75 rfl ?_
          refine G_aload_n F dX7_readsWithin_76 rfl ?_
          obtain ⟨v13, e_v13, h⟩ := bnd h
          refine G_getI F okX7 (f := 18) (by decide) q1242 rfl dX7_readsWithin_77 e_v13 ?_
          refine G_iconst F (v := (1 : Int32)) dX7_readsWithin_80 (by decide) ?_
          refine G_iadd F dX7_readsWithin_81 ?_
          obtain ⟨m14, e_m14, h⟩ := bnd h
          refine G_putV F okX7 (f := 18) (by decide) q1242 rfl rfl dX7_readsWithin_82 (vfit_int _) e_m14 ?_
          refine G_goto F (tgt := 28) dX7_readsWithin_85 (by decide) ?_
          cases h
          exact G_sub F (L2 := [some (.inr a0), some (.inl a1), some (.inl a2), some (.inl a3), some (.inl v1)]) ⟨rfl, ⟨rfl, ⟨rfl, ⟨rfl, ⟨rfl, trivial⟩⟩⟩⟩⟩ (hP5 _ rfl)
        · have h := itt c9 h
          refine G_aload_n F dX7_readsWithin_46 rfl ?_
          refine G_iconst F (v := (2 : Int32)) dX7_readsWithin_47 (by decide) ?_
          refine G_aload_n F dX7_readsWithin_48 rfl ?_
          obtain ⟨v15, e_v15, h⟩ := bnd h
          refine G_getI F okX7 (f := 18) (by decide) q1242 rfl dX7_readsWithin_49 e_v15 ?_
          obtain ⟨⟨v16, m17⟩, e_v16, h⟩ := bnd h
          obtain ⟨hc_v16, e_v16⟩ := hp_on_of e_v16
          refine G_callVv F (As := [.inl (2 : Int32), .inl v15]) (st := []) (metX7_wrongAt X e_v16) hc_v16 rfl rfl (lw_V q1464 q1466 qs47 q109 q1467) hdfX7_wrongAt ⟨by omega, by decide⟩ rfl (Nat.le_of_ble_eq_true rfl) ⟨by omega, by omega⟩ dX7_readsWithin_52 ?_
          obtain ⟨z18, e_z18, h⟩ := bnd h
          have hz_ := hp_z_of e_z18
          cases h
          have h := KR5 _ (hE5 _ rfl)
          cases h
          exact G_zretz F rfl hz_ (Nat.le_refl _) (Nat.le_refl _) rfl dX7_readsWithin_55
    have hI := iter_ok (fun (s : Hp) => match s with | m5 => G X cx 5 (Qm X cx (some (.inl rv)) m_ nx 0 0) (0) (0) m5 (nx) [some (.inr a0), some (.inl a1), some (.inl a2), some (.inl a3), some (.inl v1)] [] 28) (fun q => q = r5) KB5 _ _ _ hr5 rfl
    exact G_sub F (L2 := [some (.inr a0), some (.inl a1), some (.inl a2), some (.inl a3), some (.inl v1)]) ⟨rfl, ⟨rfl, ⟨rfl, ⟨rfl, ⟨rfl, trivial⟩⟩⟩⟩⟩ hI
  · have h := itt c3 h
    refine G_aload_n F dX7_readsWithin_13 rfl ?_
    refine G_iconst F (v := (1 : Int32)) dX7_readsWithin_14 (by decide) ?_
    refine G_aload_n F dX7_readsWithin_15 rfl ?_
    obtain ⟨v26, e_v26, h⟩ := bnd h
    refine G_getI F okX7 (f := 18) (by decide) q1242 rfl dX7_readsWithin_16 e_v26 ?_
    obtain ⟨⟨v27, m28⟩, e_v27, h⟩ := bnd h
    obtain ⟨hc_v27, e_v27⟩ := hp_on_of e_v27
    refine G_callVv F (As := [.inl (1 : Int32), .inl v26]) (st := []) (metX7_wrongAt X e_v27) hc_v27 rfl rfl (lw_V q1464 q1466 qs47 q109 q1467) hdfX7_wrongAt ⟨by omega, by decide⟩ rfl (Nat.le_of_ble_eq_true rfl) ⟨by omega, by omega⟩ dX7_readsWithin_19 ?_
    obtain ⟨z29, e_z29, h⟩ := bnd h
    have hz_ := hp_z_of e_z29
    cases h
    exact G_zretz F rfl hz_ (Nat.le_refl _) (Nat.le_refl _) rfl dX7_readsWithin_22

theorem metX7_readsStop (X : Gx) {m : Hp} {nx : Nat} {a0 : Option Nat} {a1 : Int32} {rv : Int32} {m_ : Hp} (h : fX7_readsStop m a0 a1 = some (rv, m_)) : Con X (4) yX7_readsStop cX7_readsStop 4 ((Option.some FieldType.boolean)) [.inr a0, .inl a1] m nx (some (.inl rv)) m_ 0 0 := by
  refine Con.of (own := RX7) (nm := "readsStop") (L := [some (.inr a0), some (.inl a1), none, none]) (by decide +kernel) rfl rfl (Nat.le_of_ble_eq_true rfl) (ent_of 2 rfl) ?_
  intro cx F
  refine G_aload_n F dX7_readsStop_0 rfl ?_
  obtain ⟨v1, e_v1, h⟩ := bnd h
  obtain ⟨hc_v1, e_v1⟩ := hp_on_of e_v1
  refine G_callVv F (As := []) (st := []) (metX7_isLetter X e_v1) hc_v1 rfl rfl (lw_V q1543 q1545 qs64 q109 q1546) hdfX7_isLetter ⟨by omega, by decide⟩ rfl (Nat.le_of_ble_eq_true rfl) ⟨by omega, by omega⟩ dX7_readsStop_1 ?_
  refine G_if_ne F (tgt := 17) dX7_readsStop_4 (by decide) (fun c2 => ?_) (fun c2 => ?_)
  · have h := itf c2 h
    refine G_aload_n F dX7_readsStop_17 rfl ?_
    obtain ⟨v3, e_v3, h⟩ := bnd h
    obtain ⟨hc_v3, e_v3⟩ := hp_on_of e_v3
    refine G_callVv F (As := []) (st := []) (metX7_here X e_v3) hc_v3 rfl rfl (lw_V q1460 q1462 qs46 q109 q1463) hdfX7_here ⟨by omega, by decide⟩ rfl (Nat.le_of_ble_eq_true rfl) ⟨by omega, by omega⟩ dX7_readsStop_18 ?_
    refine G_bipush F (v := (97 : Int32)) dX7_readsStop_21 (by decide) ?_
    refine G_isub F dX7_readsStop_23 ?_
    refine G_istore_n F (L2 := [some (.inr a0), some (.inl a1), some (.inl (v3 - (97 : Int32))), none]) dX7_readsStop_24 (by decide) rfl ?_
    refine G_iconst F (v := (0 : Int32)) dX7_readsStop_25 (by decide) ?_
    refine G_istore_n F (L2 := [some (.inr a0), some (.inl a1), some (.inl (v3 - (97 : Int32))), some (.inl (0 : Int32))]) dX7_readsStop_26 (by decide) rfl ?_
    obtain ⟨r4, hr4, h⟩ := bnd h
    have KE4 : ∀ (m13 : Hp), Sum.inl m13 = r4 → G X cx 4 (Qm X cx (some (.inl rv)) m_ nx 0 0) (0) (0) m13 (nx) [some (.inr a0), some (.inl a1), some (.inl (v3 - (97 : Int32))), none] [] 59 := by
      intro m13 hq
      subst hq
      try dsimp only at h
      refine G_iload_n F dX7_readsStop_59 rfl ?_
      refine G_bipush F (v := (8 : Int32)) dX7_readsStop_60 (by decide) ?_
      refine G_icmp_ne F (tgt := 75) dX7_readsStop_62 (by decide) (fun c14 => ?_) (fun c14 => ?_)
      · have h := itf c14 h
        refine G_aload_n F dX7_readsStop_75 rfl ?_
        refine G_aload_n F dX7_readsStop_76 rfl ?_
        obtain ⟨v15, e_v15, h⟩ := bnd h
        refine G_getI F okX7 (f := 18) (by decide) q1242 rfl dX7_readsStop_77 e_v15 ?_
        refine G_iconst F (v := (1 : Int32)) dX7_readsStop_80 (by decide) ?_
        refine G_iadd F dX7_readsStop_81 ?_
        obtain ⟨m16, e_m16, h⟩ := bnd h
        refine G_putV F okX7 (f := 18) (by decide) q1242 rfl rfl dX7_readsStop_82 (vfit_int _) e_m16 ?_
        refine G_aload_n F dX7_readsStop_85 rfl ?_
        refine G_iconst F (v := (4 : Int32)) dX7_readsStop_86 (by decide) ?_
        refine G_iload_n F dX7_readsStop_87 rfl ?_
        obtain ⟨p18, hp18, h⟩ := bnd h
        have K18 : ∀ (v17 : Int32), v17 = p18 → G X cx 4 (Qm X cx (some (.inl rv)) m_ nx 0 0) (0) (0) m16 (nx) [some (.inr a0), some (.inl a1), some (.inl (v3 - (97 : Int32))), none] [.inl v17, .inl (4 : Int32), .inr a0] 105 := by
          intro v17 hq
          subst hq
          try dsimp only at h
          refine G_sipush F (v := (1439 : Int32)) dX7_readsStop_105 (by decide) ?_
          obtain ⟨⟨v19, m20⟩, e_v19, h⟩ := bnd h
          obtain ⟨hc_v19, e_v19⟩ := hp_on_of e_v19
          refine G_callVv F (As := [.inl (4 : Int32), .inl v17, .inl (1439 : Int32)]) (st := []) (metX7_readsWithin X e_v19) hc_v19 rfl rfl (lw_V q1551 q1553 qs66 q109 q1554) hdfX7_readsWithin ⟨by omega, by decide⟩ rfl (Nat.le_of_ble_eq_true rfl) ⟨by omega, by omega⟩ dX7_readsStop_108 ?_
          refine G_if_ne F (tgt := 116) dX7_readsStop_111 (by decide) (fun c21 => ?_) (fun c21 => ?_)
          · have h := itf c21 h
            refine G_aload_n F dX7_readsStop_116 rfl ?_
            obtain ⟨v22, e_v22, h⟩ := bnd h
            refine G_getR F okX7 (f := 45) (by decide) q1269 rfl dX7_readsStop_117 e_v22 ?_
            refine G_iload_n F dX7_readsStop_120 rfl ?_
            refine G_iload_n F dX7_readsStop_121 rfl ?_
            obtain ⟨m23, e_m23, h⟩ := bnd h
            refine G_iast F dX7_readsStop_122 e_m23 ?_
            refine G_aload_n F dX7_readsStop_123 rfl ?_
            obtain ⟨v24, e_v24, h⟩ := bnd h
            refine G_getR F okX7 (f := 46) (by decide) q1270 rfl dX7_readsStop_124 e_v24 ?_
            refine G_iload_n F dX7_readsStop_127 rfl ?_
            refine G_aload_n F dX7_readsStop_128 rfl ?_
            obtain ⟨v25, e_v25, h⟩ := bnd h
            refine G_getI F okX7 (f := 21) (by decide) q1245 rfl dX7_readsStop_129 e_v25 ?_
            obtain ⟨m26, e_m26, h⟩ := bnd h
            refine G_iast F dX7_readsStop_132 e_m26 ?_
            refine G_iconst F (v := (1 : Int32)) dX7_readsStop_133 (by decide) ?_
            cases h
            exact G_zret F rfl (Or.inr rfl) (Nat.le_refl _) (Nat.le_refl _) rfl dX7_readsStop_134
          · have h := itt c21 h
            refine G_iconst F (v := (0 : Int32)) dX7_readsStop_114 (by decide) ?_
            cases h
            exact G_zret F rfl (Or.inl rfl) (Nat.le_refl _) (Nat.le_refl _) rfl dX7_readsStop_115
        have h := hp18
        clear hp18
        refine G_if_ne F (tgt := 95) dX7_readsStop_88 (by decide) (fun c27 => ?_) (fun c27 => ?_)
        · have h := itf c27 h
          refine G_aload_n F dX7_readsStop_95 rfl ?_
          obtain ⟨v28, e_v28, h⟩ := bnd h
          refine G_getR F okX7 (f := 46) (by decide) q1270 rfl dX7_readsStop_96 e_v28 ?_
          refine G_iload_n F dX7_readsStop_99 rfl ?_
          refine G_iconst F (v := (1 : Int32)) dX7_readsStop_100 (by decide) ?_
          refine G_isub F dX7_readsStop_101 ?_
          obtain ⟨v29, e_v29, h⟩ := bnd h
          refine G_iald F dX7_readsStop_102 e_v29 ?_
          refine G_iconst F (v := (1 : Int32)) dX7_readsStop_103 (by decide) ?_
          refine G_iadd F dX7_readsStop_104 ?_
          have hq_ := Option.some.inj h
          exact G_sub F (L2 := [some (.inr a0), some (.inl a1), some (.inl (v3 - (97 : Int32))), none]) ⟨rfl, ⟨rfl, ⟨rfl, trivial⟩⟩⟩ (K18 _ hq_)
        · have h := itt c27 h
          refine G_iconst F (v := (0 : Int32)) dX7_readsStop_91 (by decide) ?_
          refine G_goto F (tgt := 105) dX7_readsStop_92 (by decide) ?_
          have hq_ := Option.some.inj h
          exact G_sub F (L2 := [some (.inr a0), some (.inl a1), some (.inl (v3 - (97 : Int32))), none]) ⟨rfl, ⟨rfl, ⟨rfl, trivial⟩⟩⟩ (K18 _ hq_)
      · have h := itt c14 h
        refine G_aload_n F dX7_readsStop_65 rfl ?_
        refine G_iconst F (v := (5 : Int32)) dX7_readsStop_66 (by decide) ?_
        refine G_aload_n F dX7_readsStop_67 rfl ?_
        obtain ⟨v30, e_v30, h⟩ := bnd h
        refine G_getI F okX7 (f := 18) (by decide) q1242 rfl dX7_readsStop_68 e_v30 ?_
        obtain ⟨⟨v31, m32⟩, e_v31, h⟩ := bnd h
        obtain ⟨hc_v31, e_v31⟩ := hp_on_of e_v31
        refine G_callVv F (As := [.inl (5 : Int32), .inl v30]) (st := []) (metX7_wrongAt X e_v31) hc_v31 rfl rfl (lw_V q1464 q1466 qs47 q109 q1467) hdfX7_wrongAt ⟨by omega, by decide⟩ rfl (Nat.le_of_ble_eq_true rfl) ⟨by omega, by omega⟩ dX7_readsStop_71 ?_
        obtain ⟨z33, e_z33, h⟩ := bnd h
        have hz_ := hp_z_of e_z33
        cases h
        exact G_zretz F rfl hz_ (Nat.le_refl _) (Nat.le_refl _) rfl dX7_readsStop_74
    have KR4 : ∀ q, Sum.inr q = r4 → some q = some (rv, m_) := by
      intro q hq
      subst hq
      exact h
    have KB4 : ∀ s o4, fX7_readsStop_L27 a0 a1 (v3 - (97 : Int32)) s = some o4 → (∀ s', o4 = Sum.inl s' → (fun (s : (Int32 × Hp)) => match s with | (s3_4, m4) => G X cx 4 (Qm X cx (some (.inl rv)) m_ nx 0 0) (0) (0) m4 (nx) [some (.inr a0), some (.inl a1), some (.inl (v3 - (97 : Int32))), some (.inl s3_4)] [] 27) s') → (∀ q, o4 = Sum.inr q → q = r4) → (fun (s : (Int32 × Hp)) => match s with | (s3_4, m4) => G X cx 4 (Qm X cx (some (.inl rv)) m_ nx 0 0) (0) (0) m4 (nx) [some (.inr a0), some (.inl a1), some (.inl (v3 - (97 : Int32))), some (.inl s3_4)] [] 27) s := by
      intro s o4 h hP4 hE4
      obtain ⟨s3_4, m4⟩ := s
      try dsimp only at hP4 hE4 ⊢
      refine G_iload_n F dX7_readsStop_27 rfl ?_
      refine G_iload_n F dX7_readsStop_28 rfl ?_
      refine G_icmp_ge F (tgt := 59) dX7_readsStop_29 (by decide) (fun c5 => ?_) (fun c5 => ?_)
      · have h := itt c5 h
        cases h
        exact G_sub F (L2 := [some (.inr a0), some (.inl a1), some (.inl (v3 - (97 : Int32))), none]) ⟨rfl, ⟨rfl, ⟨rfl, trivial⟩⟩⟩ (KE4 _ (hE4 _ rfl))
      · have h := itf c5 h
        refine G_aload_n F dX7_readsStop_32 rfl ?_
        obtain ⟨v6, e_v6, h⟩ := bnd h
        refine G_getR F okX7 (f := 45) (by decide) q1269 rfl dX7_readsStop_33 e_v6 ?_
        refine G_iload_n F dX7_readsStop_36 rfl ?_
        obtain ⟨v7, e_v7, h⟩ := bnd h
        refine G_iald F dX7_readsStop_37 e_v7 ?_
        refine G_iload_n F dX7_readsStop_38 rfl ?_
        refine G_icmp_ne F (tgt := 53) dX7_readsStop_39 (by decide) (fun c8 => ?_) (fun c8 => ?_)
        · have h := itf c8 h
          refine G_iinc F (v := (s3_4 + (1 : Int32))) (L2 := [some (.inr a0), some (.inl a1), some (.inl (v3 - (97 : Int32))), some (.inl (s3_4 + (1 : Int32)))]) dX7_readsStop_53 (by decide) rfl rfl rfl ?_
          refine G_goto F (tgt := 27) dX7_readsStop_56 (by decide) ?_
          cases h
          exact G_sub F (L2 := [some (.inr a0), some (.inl a1), some (.inl (v3 - (97 : Int32))), some (.inl (s3_4 + (1 : Int32)))]) ⟨rfl, ⟨rfl, ⟨rfl, ⟨rfl, trivial⟩⟩⟩⟩ (hP4 _ rfl)
        · have h := itt c8 h
          refine G_aload_n F dX7_readsStop_42 rfl ?_
          refine G_bipush F (v := (6 : Int32)) dX7_readsStop_43 (by decide) ?_
          refine G_aload_n F dX7_readsStop_45 rfl ?_
          obtain ⟨v9, e_v9, h⟩ := bnd h
          refine G_getI F okX7 (f := 18) (by decide) q1242 rfl dX7_readsStop_46 e_v9 ?_
          obtain ⟨⟨v10, m11⟩, e_v10, h⟩ := bnd h
          obtain ⟨hc_v10, e_v10⟩ := hp_on_of e_v10
          refine G_callVv F (As := [.inl (6 : Int32), .inl v9]) (st := []) (metX7_wrongAt X e_v10) hc_v10 rfl rfl (lw_V q1464 q1466 qs47 q109 q1467) hdfX7_wrongAt ⟨by omega, by decide⟩ rfl (Nat.le_of_ble_eq_true rfl) ⟨by omega, by omega⟩ dX7_readsStop_49 ?_
          obtain ⟨z12, e_z12, h⟩ := bnd h
          have hz_ := hp_z_of e_z12
          cases h
          have h := KR4 _ (hE4 _ rfl)
          cases h
          exact G_zretz F rfl hz_ (Nat.le_refl _) (Nat.le_refl _) rfl dX7_readsStop_52
    have hI := iter_ok (fun (s : (Int32 × Hp)) => match s with | (s3_4, m4) => G X cx 4 (Qm X cx (some (.inl rv)) m_ nx 0 0) (0) (0) m4 (nx) [some (.inr a0), some (.inl a1), some (.inl (v3 - (97 : Int32))), some (.inl s3_4)] [] 27) (fun q => q = r4) KB4 _ _ _ hr4 rfl
    exact G_sub F (L2 := [some (.inr a0), some (.inl a1), some (.inl (v3 - (97 : Int32))), some (.inl (0 : Int32))]) ⟨rfl, ⟨rfl, ⟨rfl, ⟨rfl, trivial⟩⟩⟩⟩ hI
  · have h := itt c2 h
    refine G_aload_n F dX7_readsStop_7 rfl ?_
    refine G_iconst F (v := (1 : Int32)) dX7_readsStop_8 (by decide) ?_
    refine G_aload_n F dX7_readsStop_9 rfl ?_
    obtain ⟨v34, e_v34, h⟩ := bnd h
    refine G_getI F okX7 (f := 18) (by decide) q1242 rfl dX7_readsStop_10 e_v34 ?_
    obtain ⟨⟨v35, m36⟩, e_v35, h⟩ := bnd h
    obtain ⟨hc_v35, e_v35⟩ := hp_on_of e_v35
    refine G_callVv F (As := [.inl (1 : Int32), .inl v34]) (st := []) (metX7_wrongAt X e_v35) hc_v35 rfl rfl (lw_V q1464 q1466 qs47 q109 q1467) hdfX7_wrongAt ⟨by omega, by decide⟩ rfl (Nat.le_of_ble_eq_true rfl) ⟨by omega, by omega⟩ dX7_readsStop_13 ?_
    obtain ⟨z37, e_z37, h⟩ := bnd h
    have hz_ := hp_z_of e_z37
    cases h
    exact G_zretz F rfl hz_ (Nat.le_refl _) (Nat.le_refl _) rfl dX7_readsStop_16

theorem metX7_readsService (X : Gx) {m : Hp} {nx : Nat} {a0 : Option Nat} {rv : Int32} {m_ : Hp} (h : fX7_readsService m a0 = some (rv, m_)) : Con X (5) yX7_readsService cX7_readsService 7 ((Option.some FieldType.boolean)) [.inr a0] m nx (some (.inl rv)) m_ 0 0 := by
  refine Con.of (own := RX7) (nm := "readsService") (L := [some (.inr a0), none, none, none, none, none, none]) (by decide +kernel) rfl rfl (Nat.le_of_ble_eq_true rfl) (ent_of 6 rfl) ?_
  intro cx F
  refine G_aload_n F dX7_readsService_0 rfl ?_
  obtain ⟨v1, e_v1, h⟩ := bnd h
  refine G_getI F okX7 (f := 18) (by decide) q1242 rfl dX7_readsService_1 e_v1 ?_
  refine G_istore_n F (L2 := [some (.inr a0), some (.inl v1), none, none, none, none, none]) dX7_readsService_4 (by decide) rfl ?_
  refine G_aload_n F dX7_readsService_5 rfl ?_
  obtain ⟨v2, e_v2, h⟩ := bnd h
  obtain ⟨hc_v2, e_v2⟩ := hp_on_of e_v2
  refine G_callVv F (As := []) (st := []) (metX7_isLetter X e_v2) hc_v2 rfl rfl (lw_V q1543 q1545 qs64 q109 q1546) hdfX7_isLetter ⟨by omega, by decide⟩ rfl (Nat.le_of_ble_eq_true rfl) ⟨by omega, by omega⟩ dX7_readsService_6 ?_
  obtain ⟨p3, hp3, h⟩ := bnd h
  have K3 : ∀ (_ : Unit), Sum.inl () = p3 → G X cx 7 (Qm X cx (some (.inl rv)) m_ nx 0 0) (0) (0) m (nx) [some (.inr a0), some (.inl v1), none, none, none, none, none] [] 31 := by
    intro _ hq
    subst hq
    try dsimp only at h
    refine G_aload_n F dX7_readsService_31 rfl ?_
    refine G_iconst F (v := (0 : Int32)) dX7_readsService_32 (by decide) ?_
    obtain ⟨⟨v4, m5⟩, e_v4, h⟩ := bnd h
    obtain ⟨hc_v4, e_v4⟩ := hp_on_of e_v4
    refine G_callVv F (As := [.inl (0 : Int32)]) (st := []) (metX7_readsStop X e_v4) hc_v4 rfl rfl (lw_V q1547 q1549 qs65 q109 q1550) hdfX7_readsStop ⟨by omega, by decide⟩ rfl (Nat.le_of_ble_eq_true rfl) ⟨by omega, by omega⟩ dX7_readsService_33 ?_
    refine G_if_eq F (tgt := 47) dX7_readsService_36 (by decide) (fun c6 => ?_) (fun c6 => ?_)
    · have h := itt c6 h
      refine G_iconst F (v := (0 : Int32)) dX7_readsService_47 (by decide) ?_
      cases h
      exact G_zret F rfl (Or.inl rfl) (Nat.le_refl _) (Nat.le_refl _) rfl dX7_readsService_48
    · have h := itf c6 h
      refine G_aload_n F dX7_readsService_39 rfl ?_
      refine G_iconst F (v := (1 : Int32)) dX7_readsService_40 (by decide) ?_
      obtain ⟨⟨v7, m8⟩, e_v7, h⟩ := bnd h
      obtain ⟨hc_v7, e_v7⟩ := hp_on_of e_v7
      refine G_callVv F (As := [.inl (1 : Int32)]) (st := []) (metX7_readsStop X e_v7) hc_v7 rfl rfl (lw_V q1547 q1549 qs65 q109 q1550) hdfX7_readsStop ⟨by omega, by decide⟩ rfl (Nat.le_of_ble_eq_true rfl) ⟨by omega, by omega⟩ dX7_readsService_41 ?_
      refine G_if_ne F (tgt := 49) dX7_readsService_44 (by decide) (fun c9 => ?_) (fun c9 => ?_)
      · have h := itf c9 h
        refine G_iconst F (v := (2 : Int32)) dX7_readsService_49 (by decide) ?_
        refine G_istore_n F (L2 := [some (.inr a0), some (.inl v1), some (.inl (2 : Int32)), none, none, none, none]) dX7_readsService_50 (by decide) rfl ?_
        obtain ⟨r10, hr10, h⟩ := bnd h
        have KE10 : ∀ (v16 : Int32) (m17 : Hp), Sum.inl (v16, m17) = r10 → G X cx 7 (Qm X cx (some (.inl rv)) m_ nx 0 0) (0) (0) m17 (nx) [some (.inr a0), some (.inl v1), some (.inl v16), none, none, none, none] [] 75 := by
          intro v16 m17 hq
          subst hq
          try dsimp only at h
          refine G_iconst F (v := (1 : Int32)) dX7_readsService_75 (by decide) ?_
          refine G_istore_n F (L2 := [some (.inr a0), some (.inl v1), some (.inl v16), some (.inl (1 : Int32)), none, none, none]) dX7_readsService_76 (by decide) rfl ?_
          refine G_iconst F (v := (0 : Int32)) dX7_readsService_77 (by decide) ?_
          refine G_istore F (L2 := [some (.inr a0), some (.inl v1), some (.inl v16), some (.inl (1 : Int32)), some (.inl (0 : Int32)), none, none]) dX7_readsService_78 (by decide) rfl ?_
          refine G_aload_n F dX7_readsService_80 rfl ?_
          obtain ⟨v18, e_v18, h⟩ := bnd h
          obtain ⟨hc_v18, e_v18⟩ := hp_on_of e_v18
          refine G_callVv F (As := []) (st := []) (metX7_here X e_v18) hc_v18 rfl rfl (lw_V q1460 q1462 qs46 q109 q1463) hdfX7_here ⟨by omega, by decide⟩ rfl (Nat.le_of_ble_eq_true rfl) ⟨by omega, by omega⟩ dX7_readsService_81 ?_
          refine G_bipush F (v := (120 : Int32)) dX7_readsService_84 (by decide) ?_
          obtain ⟨p22, hp22, h⟩ := bnd h
          have K22 : ∀ (v19 : Int32) (v20 : Int32) (m21 : Hp), Sum.inl (v19, v20, m21) = p22 → G X cx 7 (Qm X cx (some (.inl rv)) m_ nx 0 0) (0) (0) m21 (nx) [some (.inr a0), some (.inl v1), some (.inl v16), some (.inl v19), some (.inl v20), none, none] [] 183 := by
            intro v19 v20 m21 hq
            subst hq
            try dsimp only at h
            refine G_aload_n F dX7_readsService_183 rfl ?_
            obtain ⟨v23, e_v23, h⟩ := bnd h
            refine G_getI F okX7 (f := 43) (by decide) q1267 rfl dX7_readsService_184 e_v23 ?_
            refine G_iload_n F dX7_readsService_187 rfl ?_
            refine G_iadd F dX7_readsService_188 ?_
            refine G_bipush F (v := (48 : Int32)) dX7_readsService_189 (by decide) ?_
            refine G_icmp_le F (tgt := 202) dX7_readsService_191 (by decide) (fun c24 => ?_) (fun c24 => ?_)
            · have h := itt c24 h
              refine G_iconst F (v := (0 : Int32)) dX7_readsService_202 (by decide) ?_
              refine G_istore F (L2 := [some (.inr a0), some (.inl v1), some (.inl v16), some (.inl v19), some (.inl v20), some (.inl (0 : Int32)), none]) dX7_readsService_203 (by decide) rfl ?_
              obtain ⟨r25, hr25, h⟩ := bnd h
              have KE25 : ∀ (m47 : Hp), m47 = r25 → G X cx 7 (Qm X cx (some (.inl rv)) m_ nx 0 0) (0) (0) m47 (nx) [some (.inr a0), none, none, none, none, none, none] [] 300 := by
                intro m47 hq
                subst hq
                try dsimp only at h
                refine G_aload_n F dX7_readsService_300 rfl ?_
                refine G_aload_n F dX7_readsService_301 rfl ?_
                obtain ⟨v48, e_v48, h⟩ := bnd h
                refine G_getI F okX7 (f := 44) (by decide) q1268 rfl dX7_readsService_302 e_v48 ?_
                refine G_iconst F (v := (1 : Int32)) dX7_readsService_305 (by decide) ?_
                refine G_iadd F dX7_readsService_306 ?_
                obtain ⟨m49, e_m49, h⟩ := bnd h
                refine G_putV F okX7 (f := 44) (by decide) q1268 rfl rfl dX7_readsService_307 (vfit_int _) e_m49 ?_
                refine G_iconst F (v := (1 : Int32)) dX7_readsService_310 (by decide) ?_
                cases h
                exact G_zret F rfl (Or.inr rfl) (Nat.le_refl _) (Nat.le_refl _) rfl dX7_readsService_311
              have KB25 : ∀ s o25, fX7_readsService_L205 a0 v16 v19 v20 s = some o25 → (∀ s', o25 = Sum.inl s' → (fun (s : (Int32 × Hp)) => match s with | (s5_25, m25) => G X cx 7 (Qm X cx (some (.inl rv)) m_ nx 0 0) (0) (0) m25 (nx) [some (.inr a0), none, some (.inl v16), some (.inl v19), some (.inl v20), some (.inl s5_25), none] [] 205) s') → (∀ q, o25 = Sum.inr q → q = r25) → (fun (s : (Int32 × Hp)) => match s with | (s5_25, m25) => G X cx 7 (Qm X cx (some (.inl rv)) m_ nx 0 0) (0) (0) m25 (nx) [some (.inr a0), none, some (.inl v16), some (.inl v19), some (.inl v20), some (.inl s5_25), none] [] 205) s := by
                intro s o25 h hP25 hE25
                obtain ⟨s5_25, m25⟩ := s
                try dsimp only at hP25 hE25 ⊢
                refine G_iload F dX7_readsService_205 rfl ?_
                refine G_iload_n F dX7_readsService_207 rfl ?_
                refine G_icmp_ge F (tgt := 300) dX7_readsService_208 (by decide) (fun c26 => ?_) (fun c26 => ?_)
                · have h := itt c26 h
                  cases h
                  exact G_sub F (L2 := [some (.inr a0), none, none, none, none, none, none]) ⟨rfl, trivial⟩ (KE25 _ (hE25 _ rfl))
                · have h := itf c26 h
                  refine G_aload_n F dX7_readsService_211 rfl ?_
                  obtain ⟨v27, e_v27, h⟩ := bnd h
                  refine G_getR F okX7 (f := 40) (by decide) q1264 rfl dX7_readsService_212 e_v27 ?_
                  refine G_aload_n F dX7_readsService_215 rfl ?_
                  obtain ⟨v28, e_v28, h⟩ := bnd h
                  refine G_getI F okX7 (f := 43) (by decide) q1267 rfl dX7_readsService_216 e_v28 ?_
                  refine G_iload_n F dX7_readsService_219 rfl ?_
                  obtain ⟨m29, e_m29, h⟩ := bnd h
                  refine G_iast F dX7_readsService_220 e_m29 ?_
                  refine G_iconst F (v := (0 : Int32)) dX7_readsService_221 (by decide) ?_
                  refine G_istore F (L2 := [some (.inr a0), none, some (.inl v16), some (.inl v19), some (.inl v20), some (.inl s5_25), some (.inl (0 : Int32))]) dX7_readsService_222 (by decide) rfl ?_
                  obtain ⟨r30, hr30, h⟩ := bnd h
                  have KE30 : ∀ (m44 : Hp), m44 = r30 → G X cx 7 (Qm X cx (some (.inl rv)) m_ nx 0 0) (0) (0) m44 (nx) [some (.inr a0), none, some (.inl v16), some (.inl v19), some (.inl v20), some (.inl s5_25), none] [] 284 := by
                    intro m44 hq
                    subst hq
                    try dsimp only at h
                    refine G_aload_n F dX7_readsService_284 rfl ?_
                    refine G_aload_n F dX7_readsService_285 rfl ?_
                    obtain ⟨v45, e_v45, h⟩ := bnd h
                    refine G_getI F okX7 (f := 43) (by decide) q1267 rfl dX7_readsService_286 e_v45 ?_
                    refine G_iconst F (v := (1 : Int32)) dX7_readsService_289 (by decide) ?_
                    refine G_iadd F dX7_readsService_290 ?_
                    obtain ⟨m46, e_m46, h⟩ := bnd h
                    refine G_putV F okX7 (f := 43) (by decide) q1267 rfl rfl dX7_readsService_291 (vfit_int _) e_m46 ?_
                    refine G_iinc F (v := (s5_25 + (1 : Int32))) (L2 := [some (.inr a0), none, some (.inl v16), some (.inl v19), some (.inl v20), some (.inl (s5_25 + (1 : Int32))), none]) dX7_readsService_294 (by decide) rfl rfl rfl ?_
                    refine G_goto F (tgt := 205) dX7_readsService_297 (by decide) ?_
                    cases h
                    exact G_sub F (L2 := [some (.inr a0), none, some (.inl v16), some (.inl v19), some (.inl v20), some (.inl (s5_25 + (1 : Int32))), none]) ⟨rfl, ⟨rfl, ⟨rfl, ⟨rfl, ⟨rfl, trivial⟩⟩⟩⟩⟩ (hP25 _ rfl)
                  have KB30 : ∀ s o30, fX7_readsService_L224 a0 v16 v19 v20 s5_25 s = some o30 → (∀ s', o30 = Sum.inl s' → (fun (s : (Int32 × Hp)) => match s with | (s6_30, m30) => G X cx 7 (Qm X cx (some (.inl rv)) m_ nx 0 0) (0) (0) m30 (nx) [some (.inr a0), none, some (.inl v16), some (.inl v19), some (.inl v20), some (.inl s5_25), some (.inl s6_30)] [] 224) s') → (∀ q, o30 = Sum.inr q → q = r30) → (fun (s : (Int32 × Hp)) => match s with | (s6_30, m30) => G X cx 7 (Qm X cx (some (.inl rv)) m_ nx 0 0) (0) (0) m30 (nx) [some (.inr a0), none, some (.inl v16), some (.inl v19), some (.inl v20), some (.inl s5_25), some (.inl s6_30)] [] 224) s := by
                    intro s o30 h hP30 hE30
                    obtain ⟨s6_30, m30⟩ := s
                    try dsimp only at hP30 hE30 ⊢
                    refine G_iload F dX7_readsService_224 rfl ?_
                    refine G_iload_n F dX7_readsService_226 rfl ?_
                    refine G_icmp_ge F (tgt := 284) dX7_readsService_227 (by decide) (fun c31 => ?_) (fun c31 => ?_)
                    · have h := itt c31 h
                      cases h
                      exact G_sub F (L2 := [some (.inr a0), none, some (.inl v16), some (.inl v19), some (.inl v20), some (.inl s5_25), none]) ⟨rfl, ⟨rfl, ⟨rfl, ⟨rfl, ⟨rfl, trivial⟩⟩⟩⟩⟩ (KE30 _ (hE30 _ rfl))
                    · have h := itf c31 h
                      refine G_aload_n F dX7_readsService_230 rfl ?_
                      obtain ⟨v32, e_v32, h⟩ := bnd h
                      refine G_getR F okX7 (f := 41) (by decide) q1265 rfl dX7_readsService_231 e_v32 ?_
                      refine G_aload_n F dX7_readsService_234 rfl ?_
                      obtain ⟨v33, e_v33, h⟩ := bnd h
                      refine G_getI F okX7 (f := 43) (by decide) q1267 rfl dX7_readsService_235 e_v33 ?_
                      refine G_iload F dX7_readsService_238 rfl ?_
                      obtain ⟨v34, e_v34, h⟩ := bnd h
                      refine G_callSv F (As := [.inl v33, .inl s6_30]) (st := [.inr v32]) (metX7_at X e_v34) (lw_S q1555 q1556 q109 q1557) hdfX7_at ⟨by omega, by decide⟩ rfl (Nat.le_of_ble_eq_true rfl) ⟨by omega, by omega⟩ dX7_readsService_240 ?_
                      refine G_aload_n F dX7_readsService_243 rfl ?_
                      obtain ⟨v35, e_v35, h⟩ := bnd h
                      refine G_getR F okX7 (f := 45) (by decide) q1269 rfl dX7_readsService_244 e_v35 ?_
                      refine G_iload F dX7_readsService_247 rfl ?_
                      obtain ⟨v36, e_v36, h⟩ := bnd h
                      refine G_iald F dX7_readsService_249 e_v36 ?_
                      obtain ⟨m37, e_m37, h⟩ := bnd h
                      refine G_iast F dX7_readsService_250 e_m37 ?_
                      refine G_aload_n F dX7_readsService_251 rfl ?_
                      obtain ⟨v38, e_v38, h⟩ := bnd h
                      refine G_getR F okX7 (f := 42) (by decide) q1266 rfl dX7_readsService_252 e_v38 ?_
                      refine G_aload_n F dX7_readsService_255 rfl ?_
                      obtain ⟨v39, e_v39, h⟩ := bnd h
                      refine G_getI F okX7 (f := 43) (by decide) q1267 rfl dX7_readsService_256 e_v39 ?_
                      refine G_iload F dX7_readsService_259 rfl ?_
                      obtain ⟨v40, e_v40, h⟩ := bnd h
                      refine G_callSv F (As := [.inl v39, .inl s6_30]) (st := [.inr v38]) (metX7_at X e_v40) (lw_S q1555 q1556 q109 q1557) hdfX7_at ⟨by omega, by decide⟩ rfl (Nat.le_of_ble_eq_true rfl) ⟨by omega, by omega⟩ dX7_readsService_261 ?_
                      refine G_aload_n F dX7_readsService_264 rfl ?_
                      obtain ⟨v41, e_v41, h⟩ := bnd h
                      refine G_getR F okX7 (f := 46) (by decide) q1270 rfl dX7_readsService_265 e_v41 ?_
                      refine G_iload F dX7_readsService_268 rfl ?_
                      obtain ⟨v42, e_v42, h⟩ := bnd h
                      refine G_iald F dX7_readsService_270 e_v42 ?_
                      refine G_iload F dX7_readsService_271 rfl ?_
                      refine G_iload F dX7_readsService_273 rfl ?_
                      refine G_imul F dX7_readsService_275 ?_
                      refine G_iadd F dX7_readsService_276 ?_
                      obtain ⟨m43, e_m43, h⟩ := bnd h
                      refine G_iast F dX7_readsService_277 e_m43 ?_
                      refine G_iinc F (v := (s6_30 + (1 : Int32))) (L2 := [some (.inr a0), none, some (.inl v16), some (.inl v19), some (.inl v20), some (.inl s5_25), some (.inl (s6_30 + (1 : Int32)))]) dX7_readsService_278 (by decide) rfl rfl rfl ?_
                      refine G_goto F (tgt := 224) dX7_readsService_281 (by decide) ?_
                      cases h
                      exact G_sub F (L2 := [some (.inr a0), none, some (.inl v16), some (.inl v19), some (.inl v20), some (.inl s5_25), some (.inl (s6_30 + (1 : Int32)))]) ⟨rfl, ⟨rfl, ⟨rfl, ⟨rfl, ⟨rfl, ⟨rfl, trivial⟩⟩⟩⟩⟩⟩ (hP30 _ rfl)
                  have hI := iter_ok (fun (s : (Int32 × Hp)) => match s with | (s6_30, m30) => G X cx 7 (Qm X cx (some (.inl rv)) m_ nx 0 0) (0) (0) m30 (nx) [some (.inr a0), none, some (.inl v16), some (.inl v19), some (.inl v20), some (.inl s5_25), some (.inl s6_30)] [] 224) (fun q => q = r30) KB30 _ _ _ hr30 rfl
                  exact G_sub F (L2 := [some (.inr a0), none, some (.inl v16), some (.inl v19), some (.inl v20), some (.inl s5_25), some (.inl (0 : Int32))]) ⟨rfl, ⟨rfl, ⟨rfl, ⟨rfl, ⟨rfl, ⟨rfl, trivial⟩⟩⟩⟩⟩⟩ hI
              have hI := iter_ok (fun (s : (Int32 × Hp)) => match s with | (s5_25, m25) => G X cx 7 (Qm X cx (some (.inl rv)) m_ nx 0 0) (0) (0) m25 (nx) [some (.inr a0), none, some (.inl v16), some (.inl v19), some (.inl v20), some (.inl s5_25), none] [] 205) (fun q => q = r25) KB25 _ _ _ hr25 rfl
              exact G_sub F (L2 := [some (.inr a0), none, some (.inl v16), some (.inl v19), some (.inl v20), some (.inl (0 : Int32)), none]) ⟨rfl, ⟨rfl, ⟨rfl, ⟨rfl, ⟨rfl, trivial⟩⟩⟩⟩⟩ hI
            · have h := itf c24 h
              refine G_aload_n F dX7_readsService_194 rfl ?_
              refine G_bipush F (v := (8 : Int32)) dX7_readsService_195 (by decide) ?_
              refine G_iload_n F dX7_readsService_197 rfl ?_
              obtain ⟨⟨v50, m51⟩, e_v50, h⟩ := bnd h
              obtain ⟨hc_v50, e_v50⟩ := hp_on_of e_v50
              refine G_callVv F (As := [.inl (8 : Int32), .inl v1]) (st := []) (metX7_wrongAt X e_v50) hc_v50 rfl rfl (lw_V q1464 q1466 qs47 q109 q1467) hdfX7_wrongAt ⟨by omega, by decide⟩ rfl (Nat.le_of_ble_eq_true rfl) ⟨by omega, by omega⟩ dX7_readsService_198 ?_
              obtain ⟨z52, e_z52, h⟩ := bnd h
              have hz_ := hp_z_of e_z52
              cases h
              exact G_zretz F rfl hz_ (Nat.le_refl _) (Nat.le_refl _) rfl dX7_readsService_201
          have K22o : ∀ o, Sum.inr o = p22 → some o = some (rv, m_) := by
            intro o hq
            subst hq
            exact h
          have h := hp22
          clear hp22
          refine G_icmp_ne F (tgt := 183) dX7_readsService_86 (by decide) (fun c53 => ?_) (fun c53 => ?_)
          · have h := itf c53 h
            have hq_ := Option.some.inj h
            exact G_sub F (L2 := [some (.inr a0), some (.inl v1), some (.inl v16), some (.inl (1 : Int32)), some (.inl (0 : Int32)), none, none]) ⟨rfl, ⟨rfl, ⟨rfl, ⟨rfl, ⟨rfl, trivial⟩⟩⟩⟩⟩ (K22 _ _ _ hq_)
          · have h := itt c53 h
            refine G_aload_n F dX7_readsService_89 rfl ?_
            refine G_aload_n F dX7_readsService_90 rfl ?_
            obtain ⟨v54, e_v54, h⟩ := bnd h
            refine G_getI F okX7 (f := 18) (by decide) q1242 rfl dX7_readsService_91 e_v54 ?_
            refine G_iconst F (v := (1 : Int32)) dX7_readsService_94 (by decide) ?_
            refine G_iadd F dX7_readsService_95 ?_
            obtain ⟨m55, e_m55, h⟩ := bnd h
            refine G_putV F okX7 (f := 18) (by decide) q1242 rfl rfl dX7_readsService_96 (vfit_int _) e_m55 ?_
            refine G_aload_n F dX7_readsService_99 rfl ?_
            refine G_iconst F (v := (2 : Int32)) dX7_readsService_100 (by decide) ?_
            refine G_iconst F (v := (2 : Int32)) dX7_readsService_101 (by decide) ?_
            refine G_bipush F (v := (24 : Int32)) dX7_readsService_102 (by decide) ?_
            obtain ⟨⟨v56, m57⟩, e_v56, h⟩ := bnd h
            obtain ⟨hc_v56, e_v56⟩ := hp_on_of e_v56
            refine G_callVv F (As := [.inl (2 : Int32), .inl (2 : Int32), .inl (24 : Int32)]) (st := []) (metX7_readsWithin X e_v56) hc_v56 rfl rfl (lw_V q1551 q1553 qs66 q109 q1554) hdfX7_readsWithin ⟨by omega, by decide⟩ rfl (Nat.le_of_ble_eq_true rfl) ⟨by omega, by omega⟩ dX7_readsService_104 ?_
            refine G_if_ne F (tgt := 112) dX7_readsService_107 (by decide) (fun c58 => ?_) (fun c58 => ?_)
            · have h := itf c58 h
              refine G_aload_n F dX7_readsService_112 rfl ?_
              obtain ⟨v59, e_v59, h⟩ := bnd h
              refine G_getI F okX7 (f := 21) (by decide) q1245 rfl dX7_readsService_113 e_v59 ?_
              refine G_istore_n F (L2 := [some (.inr a0), some (.inl v1), some (.inl v16), some (.inl v59), some (.inl (0 : Int32)), none, none]) dX7_readsService_116 (by decide) rfl ?_
              refine G_aload_n F dX7_readsService_117 rfl ?_
              refine G_bipush F (v := (43 : Int32)) dX7_readsService_118 (by decide) ?_
              obtain ⟨⟨v60, m61⟩, e_v60, h⟩ := bnd h
              obtain ⟨hc_v60, e_v60⟩ := hp_on_of e_v60
              refine G_callVv F (As := [.inl (43 : Int32)]) (st := []) (metX7_takes X e_v60) hc_v60 rfl rfl (lw_V q1531 q1533 qs62 q109 q1534) hdfX7_takes ⟨by omega, by decide⟩ rfl (Nat.le_of_ble_eq_true rfl) ⟨by omega, by omega⟩ dX7_readsService_120 ?_
              refine G_if_ne F (tgt := 128) dX7_readsService_123 (by decide) (fun c62 => ?_) (fun c62 => ?_)
              · have h := itf c62 h
                refine G_aload_n F dX7_readsService_128 rfl ?_
                obtain ⟨v63, e_v63, h⟩ := bnd h
                refine G_getI F okX7 (f := 18) (by decide) q1242 rfl dX7_readsService_129 e_v63 ?_
                refine G_istore F (L2 := [some (.inr a0), some (.inl v1), some (.inl v16), some (.inl v59), some (.inl (0 : Int32)), some (.inl v63), none]) dX7_readsService_132 (by decide) rfl ?_
                refine G_aload_n F dX7_readsService_134 rfl ?_
                refine G_iconst F (v := (3 : Int32)) dX7_readsService_135 (by decide) ?_
                refine G_iconst F (v := (1 : Int32)) dX7_readsService_136 (by decide) ?_
                refine G_sipush F (v := (720 : Int32)) dX7_readsService_137 (by decide) ?_
                obtain ⟨⟨v64, m65⟩, e_v64, h⟩ := bnd h
                obtain ⟨hc_v64, e_v64⟩ := hp_on_of e_v64
                refine G_callVv F (As := [.inl (3 : Int32), .inl (1 : Int32), .inl (720 : Int32)]) (st := []) (metX7_readsWithin X e_v64) hc_v64 rfl rfl (lw_V q1551 q1553 qs66 q109 q1554) hdfX7_readsWithin ⟨by omega, by decide⟩ rfl (Nat.le_of_ble_eq_true rfl) ⟨by omega, by omega⟩ dX7_readsService_140 ?_
                refine G_if_ne F (tgt := 148) dX7_readsService_143 (by decide) (fun c66 => ?_) (fun c66 => ?_)
                · have h := itf c66 h
                  refine G_aload_n F dX7_readsService_148 rfl ?_
                  obtain ⟨v67, e_v67, h⟩ := bnd h
                  refine G_getI F okX7 (f := 21) (by decide) q1245 rfl dX7_readsService_149 e_v67 ?_
                  refine G_istore F (L2 := [some (.inr a0), some (.inl v1), some (.inl v16), some (.inl v59), some (.inl v67), some (.inl v63), none]) dX7_readsService_152 (by decide) rfl ?_
                  refine G_aload_n F dX7_readsService_154 rfl ?_
                  obtain ⟨v68, e_v68, h⟩ := bnd h
                  refine G_getR F okX7 (f := 46) (by decide) q1270 rfl dX7_readsService_155 e_v68 ?_
                  refine G_iload_n F dX7_readsService_158 rfl ?_
                  refine G_iconst F (v := (1 : Int32)) dX7_readsService_159 (by decide) ?_
                  refine G_isub F dX7_readsService_160 ?_
                  obtain ⟨v69, e_v69, h⟩ := bnd h
                  refine G_iald F dX7_readsService_161 e_v69 ?_
                  refine G_iload_n F dX7_readsService_162 rfl ?_
                  refine G_iconst F (v := (1 : Int32)) dX7_readsService_163 (by decide) ?_
                  refine G_isub F dX7_readsService_164 ?_
                  refine G_iload F dX7_readsService_165 rfl ?_
                  refine G_imul F dX7_readsService_167 ?_
                  refine G_iadd F dX7_readsService_168 ?_
                  refine G_sipush F (v := (1439 : Int32)) dX7_readsService_169 (by decide) ?_
                  refine G_icmp_le F (tgt := 183) dX7_readsService_172 (by decide) (fun c70 => ?_) (fun c70 => ?_)
                  · have h := itt c70 h
                    have hq_ := Option.some.inj h
                    exact G_sub F (L2 := [some (.inr a0), some (.inl v1), some (.inl v16), some (.inl v59), some (.inl v67), none, none]) ⟨rfl, ⟨rfl, ⟨rfl, ⟨rfl, ⟨rfl, trivial⟩⟩⟩⟩⟩ (K22 _ _ _ hq_)
                  · have h := itf c70 h
                    refine G_aload_n F dX7_readsService_175 rfl ?_
                    refine G_iconst F (v := (3 : Int32)) dX7_readsService_176 (by decide) ?_
                    refine G_iload F dX7_readsService_177 rfl ?_
                    obtain ⟨⟨v71, m72⟩, e_v71, h⟩ := bnd h
                    obtain ⟨hc_v71, e_v71⟩ := hp_on_of e_v71
                    refine G_callVv F (As := [.inl (3 : Int32), .inl v63]) (st := []) (metX7_wrongAt X e_v71) hc_v71 rfl rfl (lw_V q1464 q1466 qs47 q109 q1467) hdfX7_wrongAt ⟨by omega, by decide⟩ rfl (Nat.le_of_ble_eq_true rfl) ⟨by omega, by omega⟩ dX7_readsService_179 ?_
                    obtain ⟨z73, e_z73, h⟩ := bnd h
                    have hz_ := hp_z_of e_z73
                    have hq_ := Option.some.inj h
                    have h := K22o _ hq_
                    cases h
                    exact G_zretz F rfl hz_ (Nat.le_refl _) (Nat.le_refl _) rfl dX7_readsService_182
                · have h := itt c66 h
                  refine G_iconst F (v := (0 : Int32)) dX7_readsService_146 (by decide) ?_
                  have hq_ := Option.some.inj h
                  have h := K22o _ hq_
                  cases h
                  exact G_zret F rfl (Or.inl rfl) (Nat.le_refl _) (Nat.le_refl _) rfl dX7_readsService_147
              · have h := itt c62 h
                refine G_iconst F (v := (0 : Int32)) dX7_readsService_126 (by decide) ?_
                have hq_ := Option.some.inj h
                have h := K22o _ hq_
                cases h
                exact G_zret F rfl (Or.inl rfl) (Nat.le_refl _) (Nat.le_refl _) rfl dX7_readsService_127
            · have h := itt c58 h
              refine G_iconst F (v := (0 : Int32)) dX7_readsService_110 (by decide) ?_
              have hq_ := Option.some.inj h
              have h := K22o _ hq_
              cases h
              exact G_zret F rfl (Or.inl rfl) (Nat.le_refl _) (Nat.le_refl _) rfl dX7_readsService_111
        have KR10 : ∀ q, Sum.inr q = r10 → some q = some (rv, m_) := by
          intro q hq
          subst hq
          exact h
        have KB10 : ∀ s o10, fX7_readsService_L51 a0 v1 s = some o10 → (∀ s', o10 = Sum.inl s' → (fun (s : (Int32 × Hp)) => match s with | (s2_10, m10) => G X cx 7 (Qm X cx (some (.inl rv)) m_ nx 0 0) (0) (0) m10 (nx) [some (.inr a0), some (.inl v1), some (.inl s2_10), none, none, none, none] [] 51) s') → (∀ q, o10 = Sum.inr q → q = r10) → (fun (s : (Int32 × Hp)) => match s with | (s2_10, m10) => G X cx 7 (Qm X cx (some (.inl rv)) m_ nx 0 0) (0) (0) m10 (nx) [some (.inr a0), some (.inl v1), some (.inl s2_10), none, none, none, none] [] 51) s := by
          intro s o10 h hP10 hE10
          obtain ⟨s2_10, m10⟩ := s
          try dsimp only at hP10 hE10 ⊢
          refine G_aload_n F dX7_readsService_51 rfl ?_
          obtain ⟨v11, e_v11, h⟩ := bnd h
          obtain ⟨hc_v11, e_v11⟩ := hp_on_of e_v11
          refine G_callVv F (As := []) (st := []) (metX7_isLetter X e_v11) hc_v11 rfl rfl (lw_V q1543 q1545 qs64 q109 q1546) hdfX7_isLetter ⟨by omega, by decide⟩ rfl (Nat.le_of_ble_eq_true rfl) ⟨by omega, by omega⟩ dX7_readsService_52 ?_
          refine G_if_eq F (tgt := 75) dX7_readsService_55 (by decide) (fun c12 => ?_) (fun c12 => ?_)
          · have h := itt c12 h
            cases h
            exact G_sub F (L2 := [some (.inr a0), some (.inl v1), some (.inl s2_10), none, none, none, none]) ⟨rfl, ⟨rfl, ⟨rfl, trivial⟩⟩⟩ (KE10 _ _ (hE10 _ rfl))
          · have h := itf c12 h
            refine G_aload_n F dX7_readsService_58 rfl ?_
            refine G_iload_n F dX7_readsService_59 rfl ?_
            obtain ⟨⟨v13, m14⟩, e_v13, h⟩ := bnd h
            obtain ⟨hc_v13, e_v13⟩ := hp_on_of e_v13
            refine G_callVv F (As := [.inl s2_10]) (st := []) (metX7_readsStop X e_v13) hc_v13 rfl rfl (lw_V q1547 q1549 qs65 q109 q1550) hdfX7_readsStop ⟨by omega, by decide⟩ rfl (Nat.le_of_ble_eq_true rfl) ⟨by omega, by omega⟩ dX7_readsService_60 ?_
            refine G_if_ne F (tgt := 68) dX7_readsService_63 (by decide) (fun c15 => ?_) (fun c15 => ?_)
            · have h := itf c15 h
              refine G_iload_n F dX7_readsService_68 rfl ?_
              refine G_iconst F (v := (1 : Int32)) dX7_readsService_69 (by decide) ?_
              refine G_iadd F dX7_readsService_70 ?_
              refine G_istore_n F (L2 := [some (.inr a0), some (.inl v1), some (.inl (s2_10 + (1 : Int32))), none, none, none, none]) dX7_readsService_71 (by decide) rfl ?_
              refine G_goto F (tgt := 51) dX7_readsService_72 (by decide) ?_
              cases h
              exact G_sub F (L2 := [some (.inr a0), some (.inl v1), some (.inl (s2_10 + (1 : Int32))), none, none, none, none]) ⟨rfl, ⟨rfl, ⟨rfl, trivial⟩⟩⟩ (hP10 _ rfl)
            · have h := itt c15 h
              refine G_iconst F (v := (0 : Int32)) dX7_readsService_66 (by decide) ?_
              cases h
              have h := KR10 _ (hE10 _ rfl)
              cases h
              exact G_zret F rfl (Or.inl rfl) (Nat.le_refl _) (Nat.le_refl _) rfl dX7_readsService_67
        have hI := iter_ok (fun (s : (Int32 × Hp)) => match s with | (s2_10, m10) => G X cx 7 (Qm X cx (some (.inl rv)) m_ nx 0 0) (0) (0) m10 (nx) [some (.inr a0), some (.inl v1), some (.inl s2_10), none, none, none, none] [] 51) (fun q => q = r10) KB10 _ _ _ hr10 rfl
        exact G_sub F (L2 := [some (.inr a0), some (.inl v1), some (.inl (2 : Int32)), none, none, none, none]) ⟨rfl, ⟨rfl, ⟨rfl, trivial⟩⟩⟩ hI
      · have h := itt c9 h
        refine G_iconst F (v := (0 : Int32)) dX7_readsService_47 (by decide) ?_
        cases h
        exact G_zret F rfl (Or.inl rfl) (Nat.le_refl _) (Nat.le_refl _) rfl dX7_readsService_48
  have K3o : ∀ o, Sum.inr o = p3 → some o = some (rv, m_) := by
    intro o hq
    subst hq
    exact h
  have h := hp3
  clear hp3
  refine G_if_eq F (tgt := 31) dX7_readsService_9 (by decide) (fun c74 => ?_) (fun c74 => ?_)
  · have h := itt c74 h
    have hq_ := Option.some.inj h
    exact G_sub F (L2 := [some (.inr a0), some (.inl v1), none, none, none, none, none]) ⟨rfl, ⟨rfl, trivial⟩⟩ (K3 () hq_)
  · have h := itf c74 h
    refine G_aload_n F dX7_readsService_12 rfl ?_
    obtain ⟨v75, e_v75, h⟩ := bnd h
    refine G_getI F okX7 (f := 44) (by decide) q1268 rfl dX7_readsService_13 e_v75 ?_
    refine G_bipush F (v := (16 : Int32)) dX7_readsService_16 (by decide) ?_
    refine G_icmp_ne F (tgt := 31) dX7_readsService_18 (by decide) (fun c76 => ?_) (fun c76 => ?_)
    · have h := itf c76 h
      have hq_ := Option.some.inj h
      exact G_sub F (L2 := [some (.inr a0), some (.inl v1), none, none, none, none, none]) ⟨rfl, ⟨rfl, trivial⟩⟩ (K3 () hq_)
    · have h := itt c76 h
      refine G_aload_n F dX7_readsService_21 rfl ?_
      refine G_iconst F (v := (4 : Int32)) dX7_readsService_22 (by decide) ?_
      refine G_aload_n F dX7_readsService_23 rfl ?_
      obtain ⟨v77, e_v77, h⟩ := bnd h
      refine G_getI F okX7 (f := 18) (by decide) q1242 rfl dX7_readsService_24 e_v77 ?_
      obtain ⟨⟨v78, m79⟩, e_v78, h⟩ := bnd h
      obtain ⟨hc_v78, e_v78⟩ := hp_on_of e_v78
      refine G_callVv F (As := [.inl (4 : Int32), .inl v77]) (st := []) (metX7_wrongAt X e_v78) hc_v78 rfl rfl (lw_V q1464 q1466 qs47 q109 q1467) hdfX7_wrongAt ⟨by omega, by decide⟩ rfl (Nat.le_of_ble_eq_true rfl) ⟨by omega, by omega⟩ dX7_readsService_27 ?_
      obtain ⟨z80, e_z80, h⟩ := bnd h
      have hz_ := hp_z_of e_z80
      have hq_ := Option.some.inj h
      have h := K3o _ hq_
      cases h
      exact G_zretz F rfl hz_ (Nat.le_refl _) (Nat.le_refl _) rfl dX7_readsService_30

theorem metX7_sortsEvents (X : Gx) {m : Hp} {nx : Nat} {a0 : Option Nat} {m_ : Hp} (h : fX7_sortsEvents m a0 = some m_) : Con X (2) yX7_sortsEvents cX7_sortsEvents 4 ((none : Option FieldType)) [.inr a0] m nx none m_ 0 0 := by
  refine Con.of (own := RX7) (nm := "sortsEvents") (L := [some (.inr a0), none, none, none]) (by decide +kernel) rfl rfl (Nat.le_of_ble_eq_true rfl) (ent_of 3 rfl) ?_
  intro cx F
  refine G_aload_n F dX7_sortsEvents_0 rfl ?_
  refine G_iconst F (v := (0 : Int32)) dX7_sortsEvents_1 (by decide) ?_
  obtain ⟨m1, e_m1, h⟩ := bnd h
  refine G_putV F okX7 (f := 15) (by decide) q1239 rfl rfl dX7_sortsEvents_2 (vfit_int _) e_m1 ?_
  refine G_iconst F (v := (0 : Int32)) dX7_sortsEvents_5 (by decide) ?_
  refine G_istore_n F (L2 := [some (.inr a0), some (.inl (0 : Int32)), none, none]) dX7_sortsEvents_6 (by decide) rfl ?_
  obtain ⟨r2, hr2, h⟩ := bnd h
  have KE2 : ∀ (m32 : Hp), m32 = r2 → G X cx 4 (Qm X cx none m_ nx 0 0) (0) (0) m32 (nx) [none, none, none, none] [] 116 := by
    intro m32 hq
    subst hq
    try dsimp only at h
    cases h
    exact G_vret F rfl (Nat.le_refl _) (Nat.le_refl _) rfl dX7_sortsEvents_116
  have KB2 : ∀ s o2, fX7_sortsEvents_L7 a0 s = some o2 → (∀ s', o2 = Sum.inl s' → (fun (s : (Int32 × Hp)) => match s with | (s1_2, m2) => G X cx 4 (Qm X cx none m_ nx 0 0) (0) (0) m2 (nx) [some (.inr a0), some (.inl s1_2), none, none] [] 7) s') → (∀ q, o2 = Sum.inr q → q = r2) → (fun (s : (Int32 × Hp)) => match s with | (s1_2, m2) => G X cx 4 (Qm X cx none m_ nx 0 0) (0) (0) m2 (nx) [some (.inr a0), some (.inl s1_2), none, none] [] 7) s := by
    intro s o2 h hP2 hE2
    obtain ⟨s1_2, m2⟩ := s
    try dsimp only at hP2 hE2 ⊢
    refine G_iload_n F dX7_sortsEvents_7 rfl ?_
    refine G_aload_n F dX7_sortsEvents_8 rfl ?_
    obtain ⟨v3, e_v3, h⟩ := bnd h
    refine G_getI F okX7 (f := 14) (by decide) q1238 rfl dX7_sortsEvents_9 e_v3 ?_
    refine G_icmp_ge F (tgt := 116) dX7_sortsEvents_12 (by decide) (fun c4 => ?_) (fun c4 => ?_)
    · have h := itt c4 h
      cases h
      exact G_sub F (L2 := [none, none, none, none]) trivial (KE2 _ (hE2 _ rfl))
    · have h := itf c4 h
      refine G_iconst F (v := (0 : Int32)) dX7_sortsEvents_15 (by decide) ?_
      refine G_istore_n F (L2 := [some (.inr a0), some (.inl s1_2), some (.inl (0 : Int32)), none]) dX7_sortsEvents_16 (by decide) rfl ?_
      obtain ⟨r5, hr5, h⟩ := bnd h
      have KE5 : ∀ (m31 : Hp), m31 = r5 → G X cx 4 (Qm X cx none m_ nx 0 0) (0) (0) m31 (nx) [some (.inr a0), some (.inl s1_2), none, none] [] 110 := by
        intro m31 hq
        subst hq
        try dsimp only at h
        refine G_iinc F (v := (s1_2 + (1 : Int32))) (L2 := [some (.inr a0), some (.inl (s1_2 + (1 : Int32))), none, none]) dX7_sortsEvents_110 (by decide) rfl rfl rfl ?_
        refine G_goto F (tgt := 7) dX7_sortsEvents_113 (by decide) ?_
        cases h
        exact G_sub F (L2 := [some (.inr a0), some (.inl (s1_2 + (1 : Int32))), none, none]) ⟨rfl, ⟨rfl, trivial⟩⟩ (hP2 _ rfl)
      have KB5 : ∀ s o5, fX7_sortsEvents_L17 a0 s1_2 s = some o5 → (∀ s', o5 = Sum.inl s' → (fun (s : (Int32 × Hp)) => match s with | (s2_5, m5) => G X cx 4 (Qm X cx none m_ nx 0 0) (0) (0) m5 (nx) [some (.inr a0), some (.inl s1_2), some (.inl s2_5), none] [] 17) s') → (∀ q, o5 = Sum.inr q → q = r5) → (fun (s : (Int32 × Hp)) => match s with | (s2_5, m5) => G X cx 4 (Qm X cx none m_ nx 0 0) (0) (0) m5 (nx) [some (.inr a0), some (.inl s1_2), some (.inl s2_5), none] [] 17) s := by
        intro s o5 h hP5 hE5
        obtain ⟨s2_5, m5⟩ := s
        try dsimp only at hP5 hE5 ⊢
        refine G_iload_n F dX7_sortsEvents_17 rfl ?_
        refine G_aload_n F dX7_sortsEvents_18 rfl ?_
        obtain ⟨v6, e_v6, h⟩ := bnd h
        refine G_getR F okX7 (f := 6) (by decide) q1230 rfl dX7_sortsEvents_19 e_v6 ?_
        refine G_iload_n F dX7_sortsEvents_22 rfl ?_
        obtain ⟨v7, e_v7, h⟩ := bnd h
        refine G_iald F dX7_sortsEvents_23 e_v7 ?_
        refine G_icmp_ge F (tgt := 110) dX7_sortsEvents_24 (by decide) (fun c8 => ?_) (fun c8 => ?_)
        · have h := itt c8 h
          cases h
          exact G_sub F (L2 := [some (.inr a0), some (.inl s1_2), none, none]) ⟨rfl, ⟨rfl, trivial⟩⟩ (KE5 _ (hE5 _ rfl))
        · have h := itf c8 h
          refine G_aload_n F dX7_sortsEvents_27 rfl ?_
          obtain ⟨v9, e_v9, h⟩ := bnd h
          refine G_getI F okX7 (f := 15) (by decide) q1239 rfl dX7_sortsEvents_28 e_v9 ?_
          refine G_istore_n F (L2 := [some (.inr a0), some (.inl s1_2), some (.inl s2_5), some (.inl v9)]) dX7_sortsEvents_31 (by decide) rfl ?_
          obtain ⟨r10, hr10, h⟩ := bnd h
          have KE10 : ∀ (v24 : Int32) (m25 : Hp), (v24, m25) = r10 → G X cx 4 (Qm X cx none m_ nx 0 0) (0) (0) m25 (nx) [some (.inr a0), some (.inl s1_2), some (.inl s2_5), some (.inl v24)] [] 83 := by
            intro v24 m25 hq
            subst hq
            try dsimp only at h
            refine G_aload_n F dX7_sortsEvents_83 rfl ?_
            obtain ⟨v26, e_v26, h⟩ := bnd h
            refine G_getR F okX7 (f := 10) (by decide) q1234 rfl dX7_sortsEvents_84 e_v26 ?_
            refine G_iload_n F dX7_sortsEvents_87 rfl ?_
            refine G_iload_n F dX7_sortsEvents_88 rfl ?_
            refine G_iload_n F dX7_sortsEvents_89 rfl ?_
            obtain ⟨v27, e_v27, h⟩ := bnd h
            refine G_callSv F (As := [.inl s1_2, .inl s2_5]) (st := [.inl v24, .inr v26]) (metX7_at X e_v27) (lw_S q1555 q1556 q109 q1557) hdfX7_at ⟨by omega, by decide⟩ rfl (Nat.le_of_ble_eq_true rfl) ⟨by omega, by omega⟩ dX7_sortsEvents_90 ?_
            obtain ⟨m28, e_m28, h⟩ := bnd h
            refine G_iast F dX7_sortsEvents_93 e_m28 ?_
            refine G_aload_n F dX7_sortsEvents_94 rfl ?_
            refine G_aload_n F dX7_sortsEvents_95 rfl ?_
            obtain ⟨v29, e_v29, h⟩ := bnd h
            refine G_getI F okX7 (f := 15) (by decide) q1239 rfl dX7_sortsEvents_96 e_v29 ?_
            refine G_iconst F (v := (1 : Int32)) dX7_sortsEvents_99 (by decide) ?_
            refine G_iadd F dX7_sortsEvents_100 ?_
            obtain ⟨m30, e_m30, h⟩ := bnd h
            refine G_putV F okX7 (f := 15) (by decide) q1239 rfl rfl dX7_sortsEvents_101 (vfit_int _) e_m30 ?_
            refine G_iinc F (v := (s2_5 + (1 : Int32))) (L2 := [some (.inr a0), some (.inl s1_2), some (.inl (s2_5 + (1 : Int32))), some (.inl v24)]) dX7_sortsEvents_104 (by decide) rfl rfl rfl ?_
            refine G_goto F (tgt := 17) dX7_sortsEvents_107 (by decide) ?_
            cases h
            exact G_sub F (L2 := [some (.inr a0), some (.inl s1_2), some (.inl (s2_5 + (1 : Int32))), none]) ⟨rfl, ⟨rfl, ⟨rfl, trivial⟩⟩⟩ (hP5 _ rfl)
          have KB10 : ∀ s o10, fX7_sortsEvents_L32 a0 s1_2 s2_5 s = some o10 → (∀ s', o10 = Sum.inl s' → (fun (s : (Int32 × Hp)) => match s with | (s3_10, m10) => G X cx 4 (Qm X cx none m_ nx 0 0) (0) (0) m10 (nx) [some (.inr a0), some (.inl s1_2), some (.inl s2_5), some (.inl s3_10)] [] 32) s') → (∀ q, o10 = Sum.inr q → q = r10) → (fun (s : (Int32 × Hp)) => match s with | (s3_10, m10) => G X cx 4 (Qm X cx none m_ nx 0 0) (0) (0) m10 (nx) [some (.inr a0), some (.inl s1_2), some (.inl s2_5), some (.inl s3_10)] [] 32) s := by
            intro s o10 h hP10 hE10
            obtain ⟨s3_10, m10⟩ := s
            try dsimp only at hP10 hE10 ⊢
            refine G_iload_n F dX7_sortsEvents_32 rfl ?_
            refine G_if_le F (tgt := 83) dX7_sortsEvents_33 (by decide) (fun c11 => ?_) (fun c11 => ?_)
            · have h := itt c11 h
              cases h
              exact G_sub F (L2 := [some (.inr a0), some (.inl s1_2), some (.inl s2_5), some (.inl s3_10)]) ⟨rfl, ⟨rfl, ⟨rfl, ⟨rfl, trivial⟩⟩⟩⟩ (KE10 _ _ (hE10 _ rfl))
            · have h := itf c11 h
              refine G_aload_n F dX7_sortsEvents_36 rfl ?_
              obtain ⟨v12, e_v12, h⟩ := bnd h
              refine G_getR F okX7 (f := 8) (by decide) q1232 rfl dX7_sortsEvents_37 e_v12 ?_
              refine G_aload_n F dX7_sortsEvents_40 rfl ?_
              obtain ⟨v13, e_v13, h⟩ := bnd h
              refine G_getR F okX7 (f := 10) (by decide) q1234 rfl dX7_sortsEvents_41 e_v13 ?_
              refine G_iload_n F dX7_sortsEvents_44 rfl ?_
              refine G_iconst F (v := (1 : Int32)) dX7_sortsEvents_45 (by decide) ?_
              refine G_isub F dX7_sortsEvents_46 ?_
              obtain ⟨v14, e_v14, h⟩ := bnd h
              refine G_iald F dX7_sortsEvents_47 e_v14 ?_
              obtain ⟨v15, e_v15, h⟩ := bnd h
              refine G_iald F dX7_sortsEvents_48 e_v15 ?_
              refine G_aload_n F dX7_sortsEvents_49 rfl ?_
              obtain ⟨v16, e_v16, h⟩ := bnd h
              refine G_getR F okX7 (f := 8) (by decide) q1232 rfl dX7_sortsEvents_50 e_v16 ?_
              refine G_iload_n F dX7_sortsEvents_53 rfl ?_
              refine G_iload_n F dX7_sortsEvents_54 rfl ?_
              obtain ⟨v17, e_v17, h⟩ := bnd h
              refine G_callSv F (As := [.inl s1_2, .inl s2_5]) (st := [.inr v16, .inl v15]) (metX7_at X e_v17) (lw_S q1555 q1556 q109 q1557) hdfX7_at ⟨by omega, by decide⟩ rfl (Nat.le_of_ble_eq_true rfl) ⟨by omega, by omega⟩ dX7_sortsEvents_55 ?_
              obtain ⟨v18, e_v18, h⟩ := bnd h
              refine G_iald F dX7_sortsEvents_58 e_v18 ?_
              refine G_icmp_le F (tgt := 83) dX7_sortsEvents_59 (by decide) (fun c19 => ?_) (fun c19 => ?_)
              · have h := itt c19 h
                cases h
                exact G_sub F (L2 := [some (.inr a0), some (.inl s1_2), some (.inl s2_5), some (.inl s3_10)]) ⟨rfl, ⟨rfl, ⟨rfl, ⟨rfl, trivial⟩⟩⟩⟩ (KE10 _ _ (hE10 _ rfl))
              · have h := itf c19 h
                refine G_aload_n F dX7_sortsEvents_62 rfl ?_
                obtain ⟨v20, e_v20, h⟩ := bnd h
                refine G_getR F okX7 (f := 10) (by decide) q1234 rfl dX7_sortsEvents_63 e_v20 ?_
                refine G_iload_n F dX7_sortsEvents_66 rfl ?_
                refine G_aload_n F dX7_sortsEvents_67 rfl ?_
                obtain ⟨v21, e_v21, h⟩ := bnd h
                refine G_getR F okX7 (f := 10) (by decide) q1234 rfl dX7_sortsEvents_68 e_v21 ?_
                refine G_iload_n F dX7_sortsEvents_71 rfl ?_
                refine G_iconst F (v := (1 : Int32)) dX7_sortsEvents_72 (by decide) ?_
                refine G_isub F dX7_sortsEvents_73 ?_
                obtain ⟨v22, e_v22, h⟩ := bnd h
                refine G_iald F dX7_sortsEvents_74 e_v22 ?_
                obtain ⟨m23, e_m23, h⟩ := bnd h
                refine G_iast F dX7_sortsEvents_75 e_m23 ?_
                refine G_iload_n F dX7_sortsEvents_76 rfl ?_
                refine G_iconst F (v := (1 : Int32)) dX7_sortsEvents_77 (by decide) ?_
                refine G_isub F dX7_sortsEvents_78 ?_
                refine G_istore_n F (L2 := [some (.inr a0), some (.inl s1_2), some (.inl s2_5), some (.inl (s3_10 - (1 : Int32)))]) dX7_sortsEvents_79 (by decide) rfl ?_
                refine G_goto F (tgt := 32) dX7_sortsEvents_80 (by decide) ?_
                cases h
                exact G_sub F (L2 := [some (.inr a0), some (.inl s1_2), some (.inl s2_5), some (.inl (s3_10 - (1 : Int32)))]) ⟨rfl, ⟨rfl, ⟨rfl, ⟨rfl, trivial⟩⟩⟩⟩ (hP10 _ rfl)
          have hI := iter_ok (fun (s : (Int32 × Hp)) => match s with | (s3_10, m10) => G X cx 4 (Qm X cx none m_ nx 0 0) (0) (0) m10 (nx) [some (.inr a0), some (.inl s1_2), some (.inl s2_5), some (.inl s3_10)] [] 32) (fun q => q = r10) KB10 _ _ _ hr10 rfl
          exact G_sub F (L2 := [some (.inr a0), some (.inl s1_2), some (.inl s2_5), some (.inl v9)]) ⟨rfl, ⟨rfl, ⟨rfl, ⟨rfl, trivial⟩⟩⟩⟩ hI
      have hI := iter_ok (fun (s : (Int32 × Hp)) => match s with | (s2_5, m5) => G X cx 4 (Qm X cx none m_ nx 0 0) (0) (0) m5 (nx) [some (.inr a0), some (.inl s1_2), some (.inl s2_5), none] [] 17) (fun q => q = r5) KB5 _ _ _ hr5 rfl
      exact G_sub F (L2 := [some (.inr a0), some (.inl s1_2), some (.inl (0 : Int32)), none]) ⟨rfl, ⟨rfl, ⟨rfl, trivial⟩⟩⟩ hI
  have hI := iter_ok (fun (s : (Int32 × Hp)) => match s with | (s1_2, m2) => G X cx 4 (Qm X cx none m_ nx 0 0) (0) (0) m2 (nx) [some (.inr a0), some (.inl s1_2), none, none] [] 7) (fun q => q = r2) KB2 _ _ _ hr2 rfl
  exact G_sub F (L2 := [some (.inr a0), some (.inl (0 : Int32)), none, none]) ⟨rfl, ⟨rfl, trivial⟩⟩ hI

theorem metX7_timetable (X : Gx) {m : Hp} {nx : Nat} {a0 : Option Nat} {a1 : Int32} {rv : Int32} {m_ : Hp} (h : fX7_timetable m a0 a1 = some (rv, m_)) : Con X (6) yX7_timetable cX7_timetable 4 ((Option.some FieldType.int)) [.inr a0, .inl a1] m nx (some (.inl rv)) m_ 0 0 := by
  refine Con.of (own := RX7) (nm := "timetable") (L := [some (.inr a0), some (.inl a1), none, none]) (by decide +kernel) rfl rfl (Nat.le_of_ble_eq_true rfl) (ent_of 2 rfl) ?_
  intro cx F
  refine G_iload_n F dX7_timetable_0 rfl ?_
  refine G_iconst F (v := (1 : Int32)) dX7_timetable_1 (by decide) ?_
  refine G_sipush F (v := (160 : Int32)) dX7_timetable_2 (by decide) ?_
  obtain ⟨v1, e_v1, h⟩ := bnd h
  refine G_callSv F (As := [.inl a1, .inl (1 : Int32), .inl (160 : Int32)]) (st := []) (metX7_in X e_v1) (lw_S q1427 q1428 q109 q1429) hdfX7_in ⟨by omega, by decide⟩ rfl (Nat.le_of_ble_eq_true rfl) ⟨by omega, by omega⟩ dX7_timetable_5 ?_
  refine G_if_eq F (tgt := 19) dX7_timetable_8 (by decide) (fun c2 => ?_) (fun c2 => ?_)
  · have h := itt c2 h
    refine G_iconst F (v := (-1 : Int32)) dX7_timetable_19 (by decide) ?_
    cases h
    exact G_iret F rfl (Nat.le_refl _) (Nat.le_refl _) rfl dX7_timetable_20
  · have h := itf c2 h
    refine G_iload_n F dX7_timetable_11 rfl ?_
    refine G_aload_n F dX7_timetable_12 rfl ?_
    obtain ⟨v3, e_v3, h⟩ := bnd h
    refine G_getI F okX7 (f := 17) (by decide) q1241 rfl dX7_timetable_13 e_v3 ?_
    refine G_icmp_le F (tgt := 21) dX7_timetable_16 (by decide) (fun c4 => ?_) (fun c4 => ?_)
    · have h := itt c4 h
      refine G_aload_n F dX7_timetable_21 rfl ?_
      refine G_iload_n F dX7_timetable_22 rfl ?_
      obtain ⟨m5, e_m5, h⟩ := bnd h
      obtain ⟨hc_m5, e_m5⟩ := hp_on_of e_m5
      refine G_callV0 F (As := [.inl a1]) (st := []) (metX7_beginsText X e_m5) hc_m5 rfl rfl (lw_V q1452 q1454 qs44 q109 q1455) hdfX7_beginsText ⟨by omega, by decide⟩ rfl (Nat.le_of_ble_eq_true rfl) ⟨by omega, by omega⟩ dX7_timetable_23 ?_
      refine G_aload_n F dX7_timetable_26 rfl ?_
      refine G_iconst F (v := (0 : Int32)) dX7_timetable_27 (by decide) ?_
      obtain ⟨m6, e_m6, h⟩ := bnd h
      refine G_putV F okX7 (f := 43) (by decide) q1267 rfl rfl dX7_timetable_28 (vfit_int _) e_m6 ?_
      refine G_aload_n F dX7_timetable_31 rfl ?_
      refine G_iconst F (v := (0 : Int32)) dX7_timetable_32 (by decide) ?_
      obtain ⟨m7, e_m7, h⟩ := bnd h
      refine G_putV F okX7 (f := 44) (by decide) q1268 rfl rfl dX7_timetable_33 (vfit_int _) e_m7 ?_
      refine G_aload_n F dX7_timetable_36 rfl ?_
      obtain ⟨⟨v8, m9⟩, e_v8, h⟩ := bnd h
      obtain ⟨hc_v8, e_v8⟩ := hp_on_of e_v8
      refine G_callVv F (As := []) (st := []) (metX7_readsService X e_v8) hc_v8 rfl rfl (lw_V q1539 q1541 qs63 q109 q1542) hdfX7_readsService ⟨by omega, by decide⟩ rfl (Nat.le_of_ble_eq_true rfl) ⟨by omega, by omega⟩ dX7_timetable_37 ?_
      refine G_istore_n F (L2 := [some (.inr a0), some (.inl a1), some (.inl v8), none]) dX7_timetable_40 (by decide) rfl ?_
      obtain ⟨r10, hr10, h⟩ := bnd h
      have KE10 : ∀ (v21 : Int32) (m22 : Hp), (v21, m22) = r10 → G X cx 4 (Qm X cx (some (.inl rv)) m_ nx 0 0) (0) (0) m22 (nx) [some (.inr a0), none, some (.inl v21), none] [] 81 := by
        intro v21 m22 hq
        subst hq
        try dsimp only at h
        refine G_aload_n F dX7_timetable_81 rfl ?_
        refine G_iconst F (v := (0 : Int32)) dX7_timetable_82 (by decide) ?_
        obtain ⟨m23, e_m23, h⟩ := bnd h
        refine G_putV F okX7 (f := 17) (by decide) q1241 rfl rfl dX7_timetable_83 (vfit_int _) e_m23 ?_
        refine G_iload_n F dX7_timetable_86 rfl ?_
        refine G_if_ne F (tgt := 95) dX7_timetable_87 (by decide) (fun c24 => ?_) (fun c24 => ?_)
        · have h := itf c24 h
          refine G_aload_n F dX7_timetable_95 rfl ?_
          refine G_aload_n F dX7_timetable_96 rfl ?_
          obtain ⟨v25, e_v25, h⟩ := bnd h
          refine G_getI F okX7 (f := 43) (by decide) q1267 rfl dX7_timetable_97 e_v25 ?_
          obtain ⟨m26, e_m26, h⟩ := bnd h
          refine G_putV F okX7 (f := 14) (by decide) q1238 rfl rfl dX7_timetable_100 (vfit_int _) e_m26 ?_
          refine G_iconst F (v := (0 : Int32)) dX7_timetable_103 (by decide) ?_
          refine G_istore_n F (L2 := [some (.inr a0), none, some (.inl v21), some (.inl (0 : Int32))]) dX7_timetable_104 (by decide) rfl ?_
          obtain ⟨r27, hr27, h⟩ := bnd h
          have KE27 : ∀ (m37 : Hp), m37 = r27 → G X cx 4 (Qm X cx (some (.inl rv)) m_ nx 0 0) (0) (0) m37 (nx) [some (.inr a0), none, none, none] [] 143 := by
            intro m37 hq
            subst hq
            try dsimp only at h
            refine G_iconst F (v := (0 : Int32)) dX7_timetable_143 (by decide) ?_
            refine G_istore_n F (L2 := [some (.inr a0), none, none, some (.inl (0 : Int32))]) dX7_timetable_144 (by decide) rfl ?_
            obtain ⟨r38, hr38, h⟩ := bnd h
            have KE38 : ∀ (m48 : Hp), m48 = r38 → G X cx 4 (Qm X cx (some (.inl rv)) m_ nx 0 0) (0) (0) m48 (nx) [some (.inr a0), none, none, none] [] 182 := by
              intro m48 hq
              subst hq
              try dsimp only at h
              refine G_aload_n F dX7_timetable_182 rfl ?_
              obtain ⟨m49, e_m49, h⟩ := bnd h
              obtain ⟨hc_m49, e_m49⟩ := hp_on_of e_m49
              refine G_callV0 F (As := []) (st := []) (metX7_sortsEvents X e_m49) hc_m49 rfl rfl (lw_V q1558 q1560 qs67 q109 q1561) hdfX7_sortsEvents ⟨by omega, by decide⟩ rfl (Nat.le_of_ble_eq_true rfl) ⟨by omega, by omega⟩ dX7_timetable_183 ?_
              refine G_aload_n F dX7_timetable_186 rfl ?_
              obtain ⟨v50, e_v50, h⟩ := bnd h
              refine G_getI F okX7 (f := 14) (by decide) q1238 rfl dX7_timetable_187 e_v50 ?_
              cases h
              exact G_iret F rfl (Nat.le_refl _) (Nat.le_refl _) rfl dX7_timetable_190
            have KB38 : ∀ s o38, fX7_timetable_L145 a0 s = some o38 → (∀ s', o38 = Sum.inl s' → (fun (s : (Int32 × Hp)) => match s with | (s3_38, m38) => G X cx 4 (Qm X cx (some (.inl rv)) m_ nx 0 0) (0) (0) m38 (nx) [some (.inr a0), none, none, some (.inl s3_38)] [] 145) s') → (∀ q, o38 = Sum.inr q → q = r38) → (fun (s : (Int32 × Hp)) => match s with | (s3_38, m38) => G X cx 4 (Qm X cx (some (.inl rv)) m_ nx 0 0) (0) (0) m38 (nx) [some (.inr a0), none, none, some (.inl s3_38)] [] 145) s := by
              intro s o38 h hP38 hE38
              obtain ⟨s3_38, m38⟩ := s
              try dsimp only at hP38 hE38 ⊢
              refine G_iload_n F dX7_timetable_145 rfl ?_
              refine G_sipush F (v := (384 : Int32)) dX7_timetable_146 (by decide) ?_
              refine G_icmp_ge F (tgt := 182) dX7_timetable_149 (by decide) (fun c39 => ?_) (fun c39 => ?_)
              · have h := itt c39 h
                cases h
                exact G_sub F (L2 := [some (.inr a0), none, none, none]) ⟨rfl, trivial⟩ (KE38 _ (hE38 _ rfl))
              · have h := itf c39 h
                refine G_aload_n F dX7_timetable_152 rfl ?_
                obtain ⟨v40, e_v40, h⟩ := bnd h
                refine G_getR F okX7 (f := 7) (by decide) q1231 rfl dX7_timetable_153 e_v40 ?_
                refine G_iload_n F dX7_timetable_156 rfl ?_
                refine G_aload_n F dX7_timetable_157 rfl ?_
                obtain ⟨v41, e_v41, h⟩ := bnd h
                refine G_getR F okX7 (f := 41) (by decide) q1265 rfl dX7_timetable_158 e_v41 ?_
                refine G_iload_n F dX7_timetable_161 rfl ?_
                obtain ⟨v42, e_v42, h⟩ := bnd h
                refine G_iald F dX7_timetable_162 e_v42 ?_
                obtain ⟨m43, e_m43, h⟩ := bnd h
                refine G_iast F dX7_timetable_163 e_m43 ?_
                refine G_aload_n F dX7_timetable_164 rfl ?_
                obtain ⟨v44, e_v44, h⟩ := bnd h
                refine G_getR F okX7 (f := 8) (by decide) q1232 rfl dX7_timetable_165 e_v44 ?_
                refine G_iload_n F dX7_timetable_168 rfl ?_
                refine G_aload_n F dX7_timetable_169 rfl ?_
                obtain ⟨v45, e_v45, h⟩ := bnd h
                refine G_getR F okX7 (f := 42) (by decide) q1266 rfl dX7_timetable_170 e_v45 ?_
                refine G_iload_n F dX7_timetable_173 rfl ?_
                obtain ⟨v46, e_v46, h⟩ := bnd h
                refine G_iald F dX7_timetable_174 e_v46 ?_
                obtain ⟨m47, e_m47, h⟩ := bnd h
                refine G_iast F dX7_timetable_175 e_m47 ?_
                refine G_iinc F (v := (s3_38 + (1 : Int32))) (L2 := [some (.inr a0), none, none, some (.inl (s3_38 + (1 : Int32)))]) dX7_timetable_176 (by decide) rfl rfl rfl ?_
                refine G_goto F (tgt := 145) dX7_timetable_179 (by decide) ?_
                cases h
                exact G_sub F (L2 := [some (.inr a0), none, none, some (.inl (s3_38 + (1 : Int32)))]) ⟨rfl, ⟨rfl, trivial⟩⟩ (hP38 _ rfl)
            have hI := iter_ok (fun (s : (Int32 × Hp)) => match s with | (s3_38, m38) => G X cx 4 (Qm X cx (some (.inl rv)) m_ nx 0 0) (0) (0) m38 (nx) [some (.inr a0), none, none, some (.inl s3_38)] [] 145) (fun q => q = r38) KB38 _ _ _ hr38 rfl
            exact G_sub F (L2 := [some (.inr a0), none, none, some (.inl (0 : Int32))]) ⟨rfl, ⟨rfl, trivial⟩⟩ hI
          have KB27 : ∀ s o27, fX7_timetable_L105 a0 s = some o27 → (∀ s', o27 = Sum.inl s' → (fun (s : (Int32 × Hp)) => match s with | (s3_27, m27) => G X cx 4 (Qm X cx (some (.inl rv)) m_ nx 0 0) (0) (0) m27 (nx) [some (.inr a0), none, none, some (.inl s3_27)] [] 105) s') → (∀ q, o27 = Sum.inr q → q = r27) → (fun (s : (Int32 × Hp)) => match s with | (s3_27, m27) => G X cx 4 (Qm X cx (some (.inl rv)) m_ nx 0 0) (0) (0) m27 (nx) [some (.inr a0), none, none, some (.inl s3_27)] [] 105) s := by
            intro s o27 h hP27 hE27
            obtain ⟨s3_27, m27⟩ := s
            try dsimp only at hP27 hE27 ⊢
            refine G_iload_n F dX7_timetable_105 rfl ?_
            refine G_bipush F (v := (48 : Int32)) dX7_timetable_106 (by decide) ?_
            refine G_icmp_ge F (tgt := 143) dX7_timetable_108 (by decide) (fun c28 => ?_) (fun c28 => ?_)
            · have h := itt c28 h
              cases h
              exact G_sub F (L2 := [some (.inr a0), none, none, none]) ⟨rfl, trivial⟩ (KE27 _ (hE27 _ rfl))
            · have h := itf c28 h
              refine G_aload_n F dX7_timetable_111 rfl ?_
              obtain ⟨v29, e_v29, h⟩ := bnd h
              refine G_getR F okX7 (f := 6) (by decide) q1230 rfl dX7_timetable_112 e_v29 ?_
              refine G_iload_n F dX7_timetable_115 rfl ?_
              refine G_aload_n F dX7_timetable_116 rfl ?_
              obtain ⟨v30, e_v30, h⟩ := bnd h
              refine G_getR F okX7 (f := 40) (by decide) q1264 rfl dX7_timetable_117 e_v30 ?_
              refine G_iload_n F dX7_timetable_120 rfl ?_
              obtain ⟨v31, e_v31, h⟩ := bnd h
              refine G_iald F dX7_timetable_121 e_v31 ?_
              obtain ⟨m32, e_m32, h⟩ := bnd h
              refine G_iast F dX7_timetable_122 e_m32 ?_
              refine G_aload_n F dX7_timetable_123 rfl ?_
              obtain ⟨v33, e_v33, h⟩ := bnd h
              refine G_getR F okX7 (f := 9) (by decide) q1233 rfl dX7_timetable_124 e_v33 ?_
              refine G_iload_n F dX7_timetable_127 rfl ?_
              refine G_iconst F (v := (0 : Int32)) dX7_timetable_128 (by decide) ?_
              obtain ⟨m34, e_m34, h⟩ := bnd h
              refine G_iast F dX7_timetable_129 e_m34 ?_
              refine G_aload_n F dX7_timetable_130 rfl ?_
              obtain ⟨v35, e_v35, h⟩ := bnd h
              refine G_getR F okX7 (f := 12) (by decide) q1236 rfl dX7_timetable_131 e_v35 ?_
              refine G_iload_n F dX7_timetable_134 rfl ?_
              refine G_iconst F (v := (0 : Int32)) dX7_timetable_135 (by decide) ?_
              obtain ⟨m36, e_m36, h⟩ := bnd h
              refine G_zast F dX7_timetable_136 e_m36 ?_
              refine G_iinc F (v := (s3_27 + (1 : Int32))) (L2 := [some (.inr a0), none, none, some (.inl (s3_27 + (1 : Int32)))]) dX7_timetable_137 (by decide) rfl rfl rfl ?_
              refine G_goto F (tgt := 105) dX7_timetable_140 (by decide) ?_
              cases h
              exact G_sub F (L2 := [some (.inr a0), none, none, some (.inl (s3_27 + (1 : Int32)))]) ⟨rfl, ⟨rfl, trivial⟩⟩ (hP27 _ rfl)
          have hI := iter_ok (fun (s : (Int32 × Hp)) => match s with | (s3_27, m27) => G X cx 4 (Qm X cx (some (.inl rv)) m_ nx 0 0) (0) (0) m27 (nx) [some (.inr a0), none, none, some (.inl s3_27)] [] 105) (fun q => q = r27) KB27 _ _ _ hr27 rfl
          exact G_sub F (L2 := [some (.inr a0), none, none, some (.inl (0 : Int32))]) ⟨rfl, ⟨rfl, trivial⟩⟩ hI
        · have h := itt c24 h
          refine G_aload_n F dX7_timetable_90 rfl ?_
          obtain ⟨v51, e_v51, h⟩ := bnd h
          refine G_getI F okX7 (f := 20) (by decide) q1244 rfl dX7_timetable_91 e_v51 ?_
          cases h
          exact G_iret F rfl (Nat.le_refl _) (Nat.le_refl _) rfl dX7_timetable_94
      have KB10 : ∀ s o10, fX7_timetable_L41 a0 s = some o10 → (∀ s', o10 = Sum.inl s' → (fun (s : (Int32 × Hp)) => match s with | (s2_10, m10) => G X cx 4 (Qm X cx (some (.inl rv)) m_ nx 0 0) (0) (0) m10 (nx) [some (.inr a0), none, some (.inl s2_10), none] [] 41) s') → (∀ q, o10 = Sum.inr q → q = r10) → (fun (s : (Int32 × Hp)) => match s with | (s2_10, m10) => G X cx 4 (Qm X cx (some (.inl rv)) m_ nx 0 0) (0) (0) m10 (nx) [some (.inr a0), none, some (.inl s2_10), none] [] 41) s := by
        intro s o10 h hP10 hE10
        obtain ⟨s2_10, m10⟩ := s
        try dsimp only at hP10 hE10 ⊢
        refine G_iload_n F dX7_timetable_41 rfl ?_
        refine G_if_eq F (tgt := 81) dX7_timetable_42 (by decide) (fun c11 => ?_) (fun c11 => ?_)
        · have h := itt c11 h
          cases h
          exact G_sub F (L2 := [some (.inr a0), none, some (.inl s2_10), none]) ⟨rfl, ⟨rfl, trivial⟩⟩ (KE10 _ _ (hE10 _ rfl))
        · have h := itf c11 h
          refine G_aload_n F dX7_timetable_45 rfl ?_
          obtain ⟨v12, e_v12, h⟩ := bnd h
          refine G_getI F okX7 (f := 18) (by decide) q1242 rfl dX7_timetable_46 e_v12 ?_
          refine G_aload_n F dX7_timetable_49 rfl ?_
          obtain ⟨v13, e_v13, h⟩ := bnd h
          refine G_getI F okX7 (f := 19) (by decide) q1243 rfl dX7_timetable_50 e_v13 ?_
          refine G_icmp_ge F (tgt := 81) dX7_timetable_53 (by decide) (fun c14 => ?_) (fun c14 => ?_)
          · have h := itt c14 h
            cases h
            exact G_sub F (L2 := [some (.inr a0), none, some (.inl s2_10), none]) ⟨rfl, ⟨rfl, trivial⟩⟩ (KE10 _ _ (hE10 _ rfl))
          · have h := itf c14 h
            refine G_aload_n F dX7_timetable_56 rfl ?_
            refine G_bipush F (v := (59 : Int32)) dX7_timetable_57 (by decide) ?_
            obtain ⟨⟨v15, m16⟩, e_v15, h⟩ := bnd h
            obtain ⟨hc_v15, e_v15⟩ := hp_on_of e_v15
            refine G_callVv F (As := [.inl (59 : Int32)]) (st := []) (metX7_takes X e_v15) hc_v15 rfl rfl (lw_V q1531 q1533 qs62 q109 q1534) hdfX7_takes ⟨by omega, by decide⟩ rfl (Nat.le_of_ble_eq_true rfl) ⟨by omega, by omega⟩ dX7_timetable_59 ?_
            refine G_if_eq F (tgt := 76) dX7_timetable_62 (by decide) (fun c17 => ?_) (fun c17 => ?_)
            · have h := itt c17 h
              refine G_iconst F (v := (0 : Int32)) dX7_timetable_76 (by decide) ?_
              refine G_istore_n F (L2 := [some (.inr a0), none, some (.inl (0 : Int32)), none]) dX7_timetable_77 (by decide) rfl ?_
              refine G_goto F (tgt := 41) dX7_timetable_78 (by decide) ?_
              cases h
              exact G_sub F (L2 := [some (.inr a0), none, some (.inl (0 : Int32)), none]) ⟨rfl, ⟨rfl, trivial⟩⟩ (hP10 _ rfl)
            · have h := itf c17 h
              refine G_aload_n F dX7_timetable_65 rfl ?_
              obtain ⟨⟨v18, m19⟩, e_v18, h⟩ := bnd h
              obtain ⟨hc_v18, e_v18⟩ := hp_on_of e_v18
              refine G_callVv F (As := []) (st := []) (metX7_readsService X e_v18) hc_v18 rfl rfl (lw_V q1539 q1541 qs63 q109 q1542) hdfX7_readsService ⟨by omega, by decide⟩ rfl (Nat.le_of_ble_eq_true rfl) ⟨by omega, by omega⟩ dX7_timetable_66 ?_
              refine G_if_eq F (tgt := 76) dX7_timetable_69 (by decide) (fun c20 => ?_) (fun c20 => ?_)
              · have h := itt c20 h
                refine G_iconst F (v := (0 : Int32)) dX7_timetable_76 (by decide) ?_
                refine G_istore_n F (L2 := [some (.inr a0), none, some (.inl (0 : Int32)), none]) dX7_timetable_77 (by decide) rfl ?_
                refine G_goto F (tgt := 41) dX7_timetable_78 (by decide) ?_
                cases h
                exact G_sub F (L2 := [some (.inr a0), none, some (.inl (0 : Int32)), none]) ⟨rfl, ⟨rfl, trivial⟩⟩ (hP10 _ rfl)
              · have h := itf c20 h
                refine G_iconst F (v := (1 : Int32)) dX7_timetable_72 (by decide) ?_
                refine G_goto F (tgt := 77) dX7_timetable_73 (by decide) ?_
                refine G_istore_n F (L2 := [some (.inr a0), none, some (.inl (1 : Int32)), none]) dX7_timetable_77 (by decide) rfl ?_
                refine G_goto F (tgt := 41) dX7_timetable_78 (by decide) ?_
                cases h
                exact G_sub F (L2 := [some (.inr a0), none, some (.inl (1 : Int32)), none]) ⟨rfl, ⟨rfl, trivial⟩⟩ (hP10 _ rfl)
      have hI := iter_ok (fun (s : (Int32 × Hp)) => match s with | (s2_10, m10) => G X cx 4 (Qm X cx (some (.inl rv)) m_ nx 0 0) (0) (0) m10 (nx) [some (.inr a0), none, some (.inl s2_10), none] [] 41) (fun q => q = r10) KB10 _ _ _ hr10 rfl
      exact G_sub F (L2 := [some (.inr a0), none, some (.inl v8), none]) ⟨rfl, ⟨rfl, trivial⟩⟩ hI
    · have h := itf c4 h
      refine G_iconst F (v := (-1 : Int32)) dX7_timetable_19 (by decide) ?_
      cases h
      exact G_iret F rfl (Nat.le_refl _) (Nat.le_refl _) rfl dX7_timetable_20

theorem metX7_readsOrder (X : Gx) {m : Hp} {nx : Nat} {a0 : Option Nat} {rv : Int32} {m_ : Hp} (h : fX7_readsOrder m a0 = some (rv, m_)) : Con X (4) yX7_readsOrder cX7_readsOrder 4 ((Option.some FieldType.boolean)) [.inr a0] m nx (some (.inl rv)) m_ 0 0 := by
  refine Con.of (own := RX7) (nm := "readsOrder") (L := [some (.inr a0), none, none, none]) (by decide +kernel) rfl rfl (Nat.le_of_ble_eq_true rfl) (ent_of 3 rfl) ?_
  intro cx F
  refine G_aload_n F dX7_readsOrder_0 rfl ?_
  obtain ⟨v1, e_v1, h⟩ := bnd h
  obtain ⟨hc_v1, e_v1⟩ := hp_on_of e_v1
  refine G_callVv F (As := []) (st := []) (metX7_isDigit X e_v1) hc_v1 rfl rfl (lw_V q1481 q1483 qs51 q109 q1484) hdfX7_isDigit ⟨by omega, by decide⟩ rfl (Nat.le_of_ble_eq_true rfl) ⟨by omega, by omega⟩ dX7_readsOrder_1 ?_
  refine G_if_ne F (tgt := 17) dX7_readsOrder_4 (by decide) (fun c2 => ?_) (fun c2 => ?_)
  · have h := itf c2 h
    refine G_aload_n F dX7_readsOrder_17 rfl ?_
    obtain ⟨v3, e_v3, h⟩ := bnd h
    refine G_getI F okX7 (f := 49) (by decide) q1273 rfl dX7_readsOrder_18 e_v3 ?_
    refine G_bipush F (v := (20 : Int32)) dX7_readsOrder_21 (by decide) ?_
    refine G_icmp_ne F (tgt := 36) dX7_readsOrder_23 (by decide) (fun c4 => ?_) (fun c4 => ?_)
    · have h := itf c4 h
      refine G_aload_n F dX7_readsOrder_36 rfl ?_
      refine G_aload_n F dX7_readsOrder_37 rfl ?_
      obtain ⟨v5, e_v5, h⟩ := bnd h
      refine G_getI F okX7 (f := 49) (by decide) q1273 rfl dX7_readsOrder_38 e_v5 ?_
      refine G_iconst F (v := (1 : Int32)) dX7_readsOrder_41 (by decide) ?_
      refine G_iadd F dX7_readsOrder_42 ?_
      obtain ⟨m6, e_m6, h⟩ := bnd h
      refine G_putV F okX7 (f := 49) (by decide) q1273 rfl rfl dX7_readsOrder_43 (vfit_int _) e_m6 ?_
      refine G_aload_n F dX7_readsOrder_46 rfl ?_
      obtain ⟨v7, e_v7, h⟩ := bnd h
      refine G_getI F okX7 (f := 18) (by decide) q1242 rfl dX7_readsOrder_47 e_v7 ?_
      refine G_istore_n F (L2 := [some (.inr a0), some (.inl v7), none, none]) dX7_readsOrder_50 (by decide) rfl ?_
      refine G_aload_n F dX7_readsOrder_51 rfl ?_
      refine G_iconst F (v := (2 : Int32)) dX7_readsOrder_52 (by decide) ?_
      refine G_iconst F (v := (0 : Int32)) dX7_readsOrder_53 (by decide) ?_
      refine G_bipush F (v := (99 : Int32)) dX7_readsOrder_54 (by decide) ?_
      obtain ⟨⟨v8, m9⟩, e_v8, h⟩ := bnd h
      obtain ⟨hc_v8, e_v8⟩ := hp_on_of e_v8
      refine G_callVv F (As := [.inl (2 : Int32), .inl (0 : Int32), .inl (99 : Int32)]) (st := []) (metX7_readsWithin X e_v8) hc_v8 rfl rfl (lw_V q1551 q1553 qs66 q109 q1554) hdfX7_readsWithin ⟨by omega, by decide⟩ rfl (Nat.le_of_ble_eq_true rfl) ⟨by omega, by omega⟩ dX7_readsOrder_56 ?_
      refine G_if_ne F (tgt := 64) dX7_readsOrder_59 (by decide) (fun c10 => ?_) (fun c10 => ?_)
      · have h := itf c10 h
        refine G_aload_n F dX7_readsOrder_64 rfl ?_
        obtain ⟨v11, e_v11, h⟩ := bnd h
        refine G_getI F okX7 (f := 21) (by decide) q1245 rfl dX7_readsOrder_65 e_v11 ?_
        refine G_istore_n F (L2 := [some (.inr a0), some (.inl v7), some (.inl v11), none]) dX7_readsOrder_68 (by decide) rfl ?_
        refine G_iload_n F dX7_readsOrder_69 rfl ?_
        refine G_aload_n F dX7_readsOrder_70 rfl ?_
        obtain ⟨v12, e_v12, h⟩ := bnd h
        refine G_getI F okX7 (f := 14) (by decide) q1238 rfl dX7_readsOrder_71 e_v12 ?_
        refine G_icmp_lt F (tgt := 85) dX7_readsOrder_74 (by decide) (fun c13 => ?_) (fun c13 => ?_)
        · have h := itt c13 h
          refine G_aload_n F dX7_readsOrder_85 rfl ?_
          obtain ⟨v14, e_v14, h⟩ := bnd h
          obtain ⟨hc_v14, e_v14⟩ := hp_on_of e_v14
          refine G_callVv F (As := []) (st := []) (metX7_here X e_v14) hc_v14 rfl rfl (lw_V q1460 q1462 qs46 q109 q1463) hdfX7_here ⟨by omega, by decide⟩ rfl (Nat.le_of_ble_eq_true rfl) ⟨by omega, by omega⟩ dX7_readsOrder_86 ?_
          refine G_istore_n F (L2 := [some (.inr a0), some (.inl v7), some (.inl v11), some (.inl v14)]) dX7_readsOrder_89 (by decide) rfl ?_
          refine G_iload_n F dX7_readsOrder_90 rfl ?_
          refine G_bipush F (v := (33 : Int32)) dX7_readsOrder_91 (by decide) ?_
          obtain ⟨p15, hp15, h⟩ := bnd h
          have K15 : ∀ (_ : Unit), Sum.inl () = p15 → G X cx 4 (Qm X cx (some (.inl rv)) m_ nx 0 0) (0) (0) m9 (nx) [some (.inr a0), none, some (.inl v11), some (.inl v14)] [] 118 := by
            intro _ hq
            subst hq
            try dsimp only at h
            refine G_aload_n F dX7_readsOrder_118 rfl ?_
            refine G_aload_n F dX7_readsOrder_119 rfl ?_
            obtain ⟨v16, e_v16, h⟩ := bnd h
            refine G_getI F okX7 (f := 18) (by decide) q1242 rfl dX7_readsOrder_120 e_v16 ?_
            refine G_iconst F (v := (1 : Int32)) dX7_readsOrder_123 (by decide) ?_
            refine G_iadd F dX7_readsOrder_124 ?_
            obtain ⟨m17, e_m17, h⟩ := bnd h
            refine G_putV F okX7 (f := 18) (by decide) q1242 rfl rfl dX7_readsOrder_125 (vfit_int _) e_m17 ?_
            refine G_iload_n F dX7_readsOrder_128 rfl ?_
            refine G_bipush F (v := (43 : Int32)) dX7_readsOrder_129 (by decide) ?_
            refine G_icmp_eq F (tgt := 153) dX7_readsOrder_131 (by decide) (fun c18 => ?_) (fun c18 => ?_)
            · have h := itt c18 h
              refine G_aload_n F dX7_readsOrder_153 rfl ?_
              refine G_iconst F (v := (2 : Int32)) dX7_readsOrder_154 (by decide) ?_
              refine G_iconst F (v := (0 : Int32)) dX7_readsOrder_155 (by decide) ?_
              refine G_bipush F (v := (99 : Int32)) dX7_readsOrder_156 (by decide) ?_
              obtain ⟨⟨v19, m20⟩, e_v19, h⟩ := bnd h
              obtain ⟨hc_v19, e_v19⟩ := hp_on_of e_v19
              refine G_callVv F (As := [.inl (2 : Int32), .inl (0 : Int32), .inl (99 : Int32)]) (st := []) (metX7_readsWithin X e_v19) hc_v19 rfl rfl (lw_V q1551 q1553 qs66 q109 q1554) hdfX7_readsWithin ⟨by omega, by decide⟩ rfl (Nat.le_of_ble_eq_true rfl) ⟨by omega, by omega⟩ dX7_readsOrder_158 ?_
              refine G_if_ne F (tgt := 166) dX7_readsOrder_161 (by decide) (fun c21 => ?_) (fun c21 => ?_)
              · have h := itf c21 h
                refine G_aload_n F dX7_readsOrder_166 rfl ?_
                obtain ⟨v22, e_v22, h⟩ := bnd h
                refine G_getR F okX7 (f := 9) (by decide) q1233 rfl dX7_readsOrder_167 e_v22 ?_
                refine G_iload_n F dX7_readsOrder_170 rfl ?_
                refine G_aload_n F dX7_readsOrder_171 rfl ?_
                obtain ⟨v23, e_v23, h⟩ := bnd h
                refine G_getI F okX7 (f := 21) (by decide) q1245 rfl dX7_readsOrder_172 e_v23 ?_
                obtain ⟨m24, e_m24, h⟩ := bnd h
                refine G_iast F dX7_readsOrder_175 e_m24 ?_
                refine G_iconst F (v := (1 : Int32)) dX7_readsOrder_176 (by decide) ?_
                cases h
                exact G_zret F rfl (Or.inr rfl) (Nat.le_refl _) (Nat.le_refl _) rfl dX7_readsOrder_177
              · have h := itt c21 h
                refine G_iconst F (v := (0 : Int32)) dX7_readsOrder_164 (by decide) ?_
                cases h
                exact G_zret F rfl (Or.inl rfl) (Nat.le_refl _) (Nat.le_refl _) rfl dX7_readsOrder_165
            · have h := itf c18 h
              refine G_aload_n F dX7_readsOrder_134 rfl ?_
              obtain ⟨v25, e_v25, h⟩ := bnd h
              refine G_getR F okX7 (f := 12) (by decide) q1236 rfl dX7_readsOrder_135 e_v25 ?_
              refine G_iload_n F dX7_readsOrder_138 rfl ?_
              refine G_iload_n F dX7_readsOrder_139 rfl ?_
              refine G_bipush F (v := (33 : Int32)) dX7_readsOrder_140 (by decide) ?_
              refine G_icmp_ne F (tgt := 149) dX7_readsOrder_142 (by decide) (fun c26 => ?_) (fun c26 => ?_)
              · have h := itf c26 h
                refine G_iconst F (v := (0 : Int32)) dX7_readsOrder_149 (by decide) ?_
                obtain ⟨m27, e_m27, h⟩ := bnd h
                refine G_zast F dX7_readsOrder_150 e_m27 ?_
                refine G_iconst F (v := (1 : Int32)) dX7_readsOrder_151 (by decide) ?_
                cases h
                exact G_zret F rfl (Or.inr rfl) (Nat.le_refl _) (Nat.le_refl _) rfl dX7_readsOrder_152
              · have h := itt c26 h
                refine G_iconst F (v := (1 : Int32)) dX7_readsOrder_145 (by decide) ?_
                refine G_goto F (tgt := 150) dX7_readsOrder_146 (by decide) ?_
                obtain ⟨m28, e_m28, h⟩ := bnd h
                refine G_zast F dX7_readsOrder_150 e_m28 ?_
                refine G_iconst F (v := (1 : Int32)) dX7_readsOrder_151 (by decide) ?_
                cases h
                exact G_zret F rfl (Or.inr rfl) (Nat.le_refl _) (Nat.le_refl _) rfl dX7_readsOrder_152
          have K15o : ∀ o, Sum.inr o = p15 → some o = some (rv, m_) := by
            intro o hq
            subst hq
            exact h
          have h := hp15
          clear hp15
          refine G_icmp_eq F (tgt := 118) dX7_readsOrder_93 (by decide) (fun c29 => ?_) (fun c29 => ?_)
          · have h := itt c29 h
            have hq_ := Option.some.inj h
            exact G_sub F (L2 := [some (.inr a0), none, some (.inl v11), some (.inl v14)]) ⟨rfl, ⟨rfl, ⟨rfl, trivial⟩⟩⟩ (K15 () hq_)
          · have h := itf c29 h
            refine G_iload_n F dX7_readsOrder_96 rfl ?_
            refine G_bipush F (v := (63 : Int32)) dX7_readsOrder_97 (by decide) ?_
            refine G_icmp_eq F (tgt := 118) dX7_readsOrder_99 (by decide) (fun c30 => ?_) (fun c30 => ?_)
            · have h := itt c30 h
              have hq_ := Option.some.inj h
              exact G_sub F (L2 := [some (.inr a0), none, some (.inl v11), some (.inl v14)]) ⟨rfl, ⟨rfl, ⟨rfl, trivial⟩⟩⟩ (K15 () hq_)
            · have h := itf c30 h
              refine G_iload_n F dX7_readsOrder_102 rfl ?_
              refine G_bipush F (v := (43 : Int32)) dX7_readsOrder_103 (by decide) ?_
              refine G_icmp_eq F (tgt := 118) dX7_readsOrder_105 (by decide) (fun c31 => ?_) (fun c31 => ?_)
              · have h := itt c31 h
                have hq_ := Option.some.inj h
                exact G_sub F (L2 := [some (.inr a0), none, some (.inl v11), some (.inl v14)]) ⟨rfl, ⟨rfl, ⟨rfl, trivial⟩⟩⟩ (K15 () hq_)
              · have h := itf c31 h
                refine G_aload_n F dX7_readsOrder_108 rfl ?_
                refine G_iconst F (v := (1 : Int32)) dX7_readsOrder_109 (by decide) ?_
                refine G_aload_n F dX7_readsOrder_110 rfl ?_
                obtain ⟨v32, e_v32, h⟩ := bnd h
                refine G_getI F okX7 (f := 18) (by decide) q1242 rfl dX7_readsOrder_111 e_v32 ?_
                obtain ⟨⟨v33, m34⟩, e_v33, h⟩ := bnd h
                obtain ⟨hc_v33, e_v33⟩ := hp_on_of e_v33
                refine G_callVv F (As := [.inl (1 : Int32), .inl v32]) (st := []) (metX7_wrongAt X e_v33) hc_v33 rfl rfl (lw_V q1464 q1466 qs47 q109 q1467) hdfX7_wrongAt ⟨by omega, by decide⟩ rfl (Nat.le_of_ble_eq_true rfl) ⟨by omega, by omega⟩ dX7_readsOrder_114 ?_
                obtain ⟨z35, e_z35, h⟩ := bnd h
                have hz_ := hp_z_of e_z35
                have hq_ := Option.some.inj h
                have h := K15o _ hq_
                cases h
                exact G_zretz F rfl hz_ (Nat.le_refl _) (Nat.le_refl _) rfl dX7_readsOrder_117
        · have h := itf c13 h
          refine G_aload_n F dX7_readsOrder_77 rfl ?_
          refine G_bipush F (v := (7 : Int32)) dX7_readsOrder_78 (by decide) ?_
          refine G_iload_n F dX7_readsOrder_80 rfl ?_
          obtain ⟨⟨v36, m37⟩, e_v36, h⟩ := bnd h
          obtain ⟨hc_v36, e_v36⟩ := hp_on_of e_v36
          refine G_callVv F (As := [.inl (7 : Int32), .inl v7]) (st := []) (metX7_wrongAt X e_v36) hc_v36 rfl rfl (lw_V q1464 q1466 qs47 q109 q1467) hdfX7_wrongAt ⟨by omega, by decide⟩ rfl (Nat.le_of_ble_eq_true rfl) ⟨by omega, by omega⟩ dX7_readsOrder_81 ?_
          obtain ⟨z38, e_z38, h⟩ := bnd h
          have hz_ := hp_z_of e_z38
          cases h
          exact G_zretz F rfl hz_ (Nat.le_refl _) (Nat.le_refl _) rfl dX7_readsOrder_84
      · have h := itt c10 h
        refine G_iconst F (v := (0 : Int32)) dX7_readsOrder_62 (by decide) ?_
        cases h
        exact G_zret F rfl (Or.inl rfl) (Nat.le_refl _) (Nat.le_refl _) rfl dX7_readsOrder_63
    · have h := itt c4 h
      refine G_aload_n F dX7_readsOrder_26 rfl ?_
      refine G_iconst F (v := (4 : Int32)) dX7_readsOrder_27 (by decide) ?_
      refine G_aload_n F dX7_readsOrder_28 rfl ?_
      obtain ⟨v39, e_v39, h⟩ := bnd h
      refine G_getI F okX7 (f := 18) (by decide) q1242 rfl dX7_readsOrder_29 e_v39 ?_
      obtain ⟨⟨v40, m41⟩, e_v40, h⟩ := bnd h
      obtain ⟨hc_v40, e_v40⟩ := hp_on_of e_v40
      refine G_callVv F (As := [.inl (4 : Int32), .inl v39]) (st := []) (metX7_wrongAt X e_v40) hc_v40 rfl rfl (lw_V q1464 q1466 qs47 q109 q1467) hdfX7_wrongAt ⟨by omega, by decide⟩ rfl (Nat.le_of_ble_eq_true rfl) ⟨by omega, by omega⟩ dX7_readsOrder_32 ?_
      obtain ⟨z42, e_z42, h⟩ := bnd h
      have hz_ := hp_z_of e_z42
      cases h
      exact G_zretz F rfl hz_ (Nat.le_refl _) (Nat.le_refl _) rfl dX7_readsOrder_35
  · have h := itt c2 h
    refine G_aload_n F dX7_readsOrder_7 rfl ?_
    refine G_iconst F (v := (1 : Int32)) dX7_readsOrder_8 (by decide) ?_
    refine G_aload_n F dX7_readsOrder_9 rfl ?_
    obtain ⟨v43, e_v43, h⟩ := bnd h
    refine G_getI F okX7 (f := 18) (by decide) q1242 rfl dX7_readsOrder_10 e_v43 ?_
    obtain ⟨⟨v44, m45⟩, e_v44, h⟩ := bnd h
    obtain ⟨hc_v44, e_v44⟩ := hp_on_of e_v44
    refine G_callVv F (As := [.inl (1 : Int32), .inl v43]) (st := []) (metX7_wrongAt X e_v44) hc_v44 rfl rfl (lw_V q1464 q1466 qs47 q109 q1467) hdfX7_wrongAt ⟨by omega, by decide⟩ rfl (Nat.le_of_ble_eq_true rfl) ⟨by omega, by omega⟩ dX7_readsOrder_13 ?_
    obtain ⟨z46, e_z46, h⟩ := bnd h
    have hz_ := hp_z_of e_z46
    cases h
    exact G_zretz F rfl hz_ (Nat.le_refl _) (Nat.le_refl _) rfl dX7_readsOrder_16
