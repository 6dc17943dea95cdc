set_option maxRecDepth 100000
set_option linter.unusedVariables false
theorem metX3_stops (X : Gx) {m : Hp} {nx : Nat} {a0 : Option Nat} {a1 : Int32} {a2 : Int32} {m_ : Hp} (h : fX3_stops m a0 a1 a2 = some m_) : Con X (188) yX3_stops cX3_stops 10 ((none : Option FieldType)) [.inr a0, .inl a1, .inl a2] m nx none m_ 0 0 := by
  refine Con.of (own := RX3) (nm := "stops") (L := [some (.inr a0), some (.inl a1), some (.inl a2), none, none, none, none, none, none, none]) (by decide +kernel) rfl rfl (Nat.le_of_ble_eq_true rfl) (ent_of 7 rfl) ?_
  intro cx F
  refine G_aload_n F dX3_stops_0 rfl ?_
  obtain ⟨v1, e_v1, h⟩ := bnd h
  refine G_getR F okX3 (f := 8) (by decide) q239 rfl dX3_stops_1 e_v1 ?_
  obtain ⟨v2, e_v2, h⟩ := bnd h
  refine G_getRN F okX0 (f := 0) (by decide) q329 rfl dX3_stops_4 e_v2 ?_
  refine G_iload_n F dX3_stops_7 rfl ?_
  obtain ⟨v3, e_v3, h⟩ := bnd h
  refine G_aald F (t := 5) (by decide) dX3_stops_8 e_v3 ?_
  refine G_astore_n F (L2 := [some (.inr a0), some (.inl a1), some (.inl a2), some (.inr v3), none, none, none, none, none, none]) dX3_stops_9 (by decide) rfl ?_
  refine G_aload_n F dX3_stops_10 rfl ?_
  obtain ⟨v4, e_v4, h⟩ := bnd h
  refine G_getRN F okX6 (f := 0) (by decide) q297 rfl dX3_stops_11 e_v4 ?_
  refine G_iload_n F dX3_stops_14 rfl ?_
  obtain ⟨v5, e_v5, h⟩ := bnd h
  refine G_iald F dX3_stops_15 e_v5 ?_
  refine G_istore F (L2 := [some (.inr a0), some (.inl a1), some (.inl a2), some (.inr v3), some (.inl v5), none, none, none, none, none]) dX3_stops_16 (by decide) rfl ?_
  refine G_aload_n F dX3_stops_18 rfl ?_
  obtain ⟨⟨v6, m7⟩, e_v6, h⟩ := bnd h
  obtain ⟨hc_v6, e_v6⟩ := hp_on_of e_v6
  refine G_callVv F (As := []) (st := []) (metX3_draw X e_v6) hc_v6 rfl rfl (lw_V q922 q924 qs23 q105 q925) hdfX3_draw ⟨by omega, by decide⟩ rfl (Nat.le_of_ble_eq_true rfl) ⟨by omega, by omega⟩ dX3_stops_19 ?_
  refine G_istore F (L2 := [some (.inr a0), some (.inl a1), some (.inl a2), some (.inr v3), some (.inl v5), some (.inl v6), none, none, none, none]) dX3_stops_22 (by decide) rfl ?_
  refine G_aload_n F dX3_stops_24 rfl ?_
  obtain ⟨v8, e_v8, h⟩ := bnd h
  refine G_getR F okX3 (f := 8) (by decide) q239 rfl dX3_stops_25 e_v8 ?_
  obtain ⟨v9, e_v9, h⟩ := bnd h
  refine G_getRN F okX0 (f := 6) (by decide) q340 rfl dX3_stops_28 e_v9 ?_
  refine G_iload_n F dX3_stops_31 rfl ?_
  refine G_iload F dX3_stops_32 rfl ?_
  refine G_iload_n F dX3_stops_34 rfl ?_
  refine G_aload_n F dX3_stops_35 rfl ?_
  obtain ⟨v10, e_v10, h⟩ := bnd h
  refine G_getR F okX3 (f := 1) (by decide) q227 rfl dX3_stops_36 e_v10 ?_
  refine G_iload_n F dX3_stops_39 rfl ?_
  obtain ⟨v11, e_v11, h⟩ := bnd h
  refine G_iald F dX3_stops_40 e_v11 ?_
  refine G_aload_n F dX3_stops_41 rfl ?_
  refine G_iload F dX3_stops_42 rfl ?_
  obtain ⟨v12, e_v12, h⟩ := bnd h
  obtain ⟨hc_v12, e_v12⟩ := hp_on_of e_v12
  refine G_callVv F (As := [.inl v5]) (st := [.inl v11, .inl a2, .inl v5, .inl a1, .inr v9]) (metX3_waiting X e_v12) hc_v12 rfl rfl (lw_V q927 q929 qs24 q105 q930) hdfX3_waiting ⟨by omega, by decide⟩ rfl (Nat.le_of_ble_eq_true rfl) ⟨by omega, by omega⟩ dX3_stops_44 ?_
  refine G_aload_n F dX3_stops_47 rfl ?_
  obtain ⟨v13, e_v13, h⟩ := bnd h
  refine G_getI F okX3 (f := 3) (by decide) q229 rfl dX3_stops_48 e_v13 ?_
  refine G_iload F dX3_stops_51 rfl ?_
  obtain ⟨⟨v14, m15⟩, e_v14, h⟩ := bnd h
  obtain ⟨hc_v14, e_v14⟩ := hp_on_of e_v14
  refine G_callVv F (As := [.inl a1, .inl v5, .inl a2, .inl v11, .inl v12, .inl v13, .inl v6]) (st := []) (metX2_of X e_v14) hc_v14 rfl rfl (lw_V q931 q932 q933 q104 q934) hdfX2_of ⟨by omega, by decide⟩ rfl (Nat.le_of_ble_eq_true rfl) ⟨by omega, by omega⟩ dX3_stops_53 ?_
  refine G_pop F dX3_stops_56 ?_
  refine G_aload_n F dX3_stops_57 rfl ?_
  obtain ⟨v16, e_v16, h⟩ := bnd h
  refine G_getR F okX3 (f := 8) (by decide) q239 rfl dX3_stops_58 e_v16 ?_
  refine G_bipush F (v := (100 : Int32)) dX3_stops_61 (by decide) ?_
  refine G_bipush F (v := (60 : Int32)) dX3_stops_63 (by decide) ?_
  obtain ⟨⟨v17, m18⟩, e_v17, h⟩ := bnd h
  obtain ⟨hc_v17, e_v17⟩ := hp_on_of e_v17
  refine G_callVNv F (As := [.inl (100 : Int32), .inl (60 : Int32)]) (st := []) (metX0_tells X e_v17) hc_v17 rfl rfl q938 q102 q935 q937 qs25 hdfX0_tells ⟨by omega, by decide⟩ rfl (Nat.le_of_ble_eq_true rfl) ⟨by omega, by omega⟩ dX3_stops_65 ?_
  refine G_istore F (L2 := [some (.inr a0), some (.inl a1), some (.inl a2), some (.inr v3), some (.inl v5), some (.inl v6), some (.inl v17), none, none, none]) dX3_stops_68 (by decide) rfl ?_
  refine G_aload_n F dX3_stops_70 rfl ?_
  obtain ⟨v19, e_v19, h⟩ := bnd h
  refine G_getR F okX3 (f := 8) (by decide) q239 rfl dX3_stops_71 e_v19 ?_
  refine G_bipush F (v := (99 : Int32)) dX3_stops_74 (by decide) ?_
  refine G_bipush F (v := (60 : Int32)) dX3_stops_76 (by decide) ?_
  obtain ⟨⟨v20, m21⟩, e_v20, h⟩ := bnd h
  obtain ⟨hc_v20, e_v20⟩ := hp_on_of e_v20
  refine G_callVNv F (As := [.inl (99 : Int32), .inl (60 : Int32)]) (st := []) (metX0_tells X e_v20) hc_v20 rfl rfl q938 q102 q935 q937 qs25 hdfX0_tells ⟨by omega, by decide⟩ rfl (Nat.le_of_ble_eq_true rfl) ⟨by omega, by omega⟩ dX3_stops_78 ?_
  refine G_istore F (L2 := [some (.inr a0), some (.inl a1), some (.inl a2), some (.inr v3), some (.inl v5), some (.inl v6), some (.inl v17), some (.inl v20), none, none]) dX3_stops_81 (by decide) rfl ?_
  refine G_aload_n F dX3_stops_83 rfl ?_
  obtain ⟨v22, e_v22, h⟩ := bnd h
  refine G_getR F okX3 (f := 1) (by decide) q227 rfl dX3_stops_84 e_v22 ?_
  refine G_iload_n F dX3_stops_87 rfl ?_
  refine G_aload_n F dX3_stops_88 rfl ?_
  obtain ⟨v23, e_v23, h⟩ := bnd h
  refine G_getR F okX3 (f := 1) (by decide) q227 rfl dX3_stops_89 e_v23 ?_
  refine G_iload_n F dX3_stops_92 rfl ?_
  obtain ⟨v24, e_v24, h⟩ := bnd h
  refine G_iald F dX3_stops_93 e_v24 ?_
  refine G_iload F dX3_stops_94 rfl ?_
  refine G_iadd F dX3_stops_96 ?_
  refine G_iload F dX3_stops_97 rfl ?_
  refine G_isub F dX3_stops_99 ?_
  refine G_sipush F (v := (240 : Int32)) dX3_stops_100 (by decide) ?_
  obtain ⟨v25, e_v25, h⟩ := bnd h
  refine G_callSNv F (As := [.inl ((v24 + v17) - v20), .inl (240 : Int32)]) (st := [.inl a1, .inr v22]) (metX0_held X e_v25) q989 q102 q992 q988 hdfX0_held ⟨by omega, by decide⟩ rfl (Nat.le_of_ble_eq_true rfl) ⟨by omega, by omega⟩ dX3_stops_103 ?_
  obtain ⟨m26, e_m26, h⟩ := bnd h
  refine G_iast F dX3_stops_106 e_m26 ?_
  refine G_aload_n F dX3_stops_107 rfl ?_
  refine G_aload_n F dX3_stops_108 rfl ?_
  obtain ⟨v27, e_v27, h⟩ := bnd h
  refine G_getI F okX3 (f := 7) (by decide) q237 rfl dX3_stops_109 e_v27 ?_
  refine G_aload_n F dX3_stops_112 rfl ?_
  obtain ⟨v28, e_v28, h⟩ := bnd h
  refine G_getR F okX3 (f := 1) (by decide) q227 rfl dX3_stops_113 e_v28 ?_
  refine G_iload_n F dX3_stops_116 rfl ?_
  obtain ⟨v29, e_v29, h⟩ := bnd h
  refine G_iald F dX3_stops_117 e_v29 ?_
  refine G_mmax F q993 q514 q113 q515 (by omega) (Nat.le_of_ble_eq_true rfl) ⟨by omega, by omega⟩ dX3_stops_118 ?_
  obtain ⟨m30, e_m30, h⟩ := bnd h
  refine G_putV F okX3 (f := 7) (by decide) q237 rfl rfl dX3_stops_121 (vfit_int _) e_m30 ?_
  refine G_aload_n F dX3_stops_124 rfl ?_
  refine G_iload_n F dX3_stops_125 rfl ?_
  refine G_iload F dX3_stops_126 rfl ?_
  obtain ⟨m31, e_m31, h⟩ := bnd h
  obtain ⟨hc_m31, e_m31⟩ := hp_on_of e_m31
  refine G_callV0 F (As := [.inl a1, .inl v5]) (st := []) (metX3_arrives X e_m31) hc_m31 rfl rfl (lw_V q994 q996 qs26 q105 q997) hdfX3_arrives ⟨by omega, by decide⟩ rfl (Nat.le_of_ble_eq_true rfl) ⟨by omega, by omega⟩ dX3_stops_128 ?_
  refine G_iconst F (v := (0 : Int32)) dX3_stops_131 (by decide) ?_
  refine G_istore F (L2 := [some (.inr a0), some (.inl a1), some (.inl a2), some (.inr v3), some (.inl v5), some (.inl v6), some (.inl v17), some (.inl v20), some (.inl (0 : Int32)), none]) dX3_stops_132 (by decide) rfl ?_
  obtain ⟨r32, hr32, h⟩ := bnd h
  have KE32 : ∀ (m53 : Hp), m53 = r32 → G X cx 10 (Qm X cx none m_ nx 0 0) (0) (0) m53 (nx) [none, none, none, none, none, none, none, none, none, none] [] 231 := by
    intro m53 hq
    subst hq
    try dsimp only at h
    cases h
    exact G_vret F rfl (Nat.le_refl _) (Nat.le_refl _) rfl dX3_stops_231
  have KB32 : ∀ s o32, fX3_stops_L134 a0 a1 a2 v3 v5 v6 s = some o32 → (∀ s', o32 = Sum.inl s' → (fun (s : (Int32 × Hp)) => match s with | (s8_32, m32) => G X cx 10 (Qm X cx none m_ nx 0 0) (0) (0) m32 (nx) [some (.inr a0), some (.inl a1), some (.inl a2), some (.inr v3), some (.inl v5), some (.inl v6), none, none, some (.inl s8_32), none] [] 134) s') → (∀ q, o32 = Sum.inr q → q = r32) → (fun (s : (Int32 × Hp)) => match s with | (s8_32, m32) => G X cx 10 (Qm X cx none m_ nx 0 0) (0) (0) m32 (nx) [some (.inr a0), some (.inl a1), some (.inl a2), some (.inr v3), some (.inl v5), some (.inl v6), none, none, some (.inl s8_32), none] [] 134) s := by
    intro s o32 h hP32 hE32
    obtain ⟨s8_32, m32⟩ := s
    try dsimp only at hP32 hE32 ⊢
    refine G_iload F dX3_stops_134 rfl ?_
    refine G_bipush F (v := (12 : Int32)) dX3_stops_136 (by decide) ?_
    refine G_icmp_ge F (tgt := 231) dX3_stops_138 (by decide) (fun c33 => ?_) (fun c33 => ?_)
    · have h := itt c33 h
      cases h
      exact G_sub F (L2 := [none, none, none, none, none, none, none, none, none, none]) trivial (KE32 _ (hE32 _ rfl))
    · have h := itf c33 h
      refine G_aload_n F dX3_stops_141 rfl ?_
      obtain ⟨v34, e_v34, h⟩ := bnd h
      refine G_getR F okX3 (f := 0) (by decide) q225 rfl dX3_stops_142 e_v34 ?_
      refine G_iload F dX3_stops_145 rfl ?_
      obtain ⟨v35, e_v35, h⟩ := bnd h
      refine G_aald F (t := 6) (by decide) dX3_stops_147 e_v35 ?_
      refine G_astore F (L2 := [some (.inr a0), some (.inl a1), some (.inl a2), some (.inr v3), some (.inl v5), some (.inl v6), none, none, some (.inl s8_32), some (.inr v35)]) dX3_stops_148 (by decide) rfl ?_
      refine G_aload F dX3_stops_150 rfl ?_
      obtain ⟨v36, e_v36, h⟩ := bnd h
      refine G_getIN F okX4 (f := 5) (by decide) q210 rfl dX3_stops_152 e_v36 ?_
      refine G_if_eq F (tgt := 225) dX3_stops_155 (by decide) (fun c37 => ?_) (fun c37 => ?_)
      · have h := itt c37 h
        refine G_iinc F (v := (s8_32 + (1 : Int32))) (L2 := [some (.inr a0), some (.inl a1), some (.inl a2), some (.inr v3), some (.inl v5), some (.inl v6), none, none, some (.inl (s8_32 + (1 : Int32))), some (.inr v35)]) dX3_stops_225 (by decide) rfl rfl rfl ?_
        refine G_goto F (tgt := 134) dX3_stops_228 (by decide) ?_
        cases h
        exact G_sub F (L2 := [some (.inr a0), some (.inl a1), some (.inl a2), some (.inr v3), some (.inl v5), some (.inl v6), none, none, some (.inl (s8_32 + (1 : Int32))), none]) ⟨rfl, ⟨rfl, ⟨rfl, ⟨rfl, ⟨rfl, ⟨rfl, ⟨rfl, trivial⟩⟩⟩⟩⟩⟩⟩ (hP32 _ rfl)
      · have h := itf c37 h
        refine G_aload F dX3_stops_158 rfl ?_
        obtain ⟨v38, e_v38, h⟩ := bnd h
        refine G_getIN F okX4 (f := 0) (by decide) q195 rfl dX3_stops_160 e_v38 ?_
        refine G_iload F dX3_stops_163 rfl ?_
        refine G_icmp_ne F (tgt := 225) dX3_stops_165 (by decide) (fun c39 => ?_) (fun c39 => ?_)
        · have h := itf c39 h
          refine G_iinc F (v := (s8_32 + (1 : Int32))) (L2 := [some (.inr a0), some (.inl a1), some (.inl a2), some (.inr v3), some (.inl v5), some (.inl v6), none, none, some (.inl (s8_32 + (1 : Int32))), some (.inr v35)]) dX3_stops_225 (by decide) rfl rfl rfl ?_
          refine G_goto F (tgt := 134) dX3_stops_228 (by decide) ?_
          cases h
          exact G_sub F (L2 := [some (.inr a0), some (.inl a1), some (.inl a2), some (.inr v3), some (.inl v5), some (.inl v6), none, none, some (.inl (s8_32 + (1 : Int32))), none]) ⟨rfl, ⟨rfl, ⟨rfl, ⟨rfl, ⟨rfl, ⟨rfl, ⟨rfl, trivial⟩⟩⟩⟩⟩⟩⟩ (hP32 _ rfl)
        · have h := itt c39 h
          refine G_aload_n F dX3_stops_168 rfl ?_
          obtain ⟨v40, e_v40, h⟩ := bnd h
          refine G_getR F okX3 (f := 2) (by decide) q228 rfl dX3_stops_169 e_v40 ?_
          refine G_iload F dX3_stops_172 rfl ?_
          obtain ⟨v41, e_v41, h⟩ := bnd h
          refine G_iald F dX3_stops_174 e_v41 ?_
          refine G_iconst F (v := (-1 : Int32)) dX3_stops_175 (by decide) ?_
          refine G_icmp_ne F (tgt := 225) dX3_stops_176 (by decide) (fun c42 => ?_) (fun c42 => ?_)
          · have h := itf c42 h
            refine G_iinc F (v := (s8_32 + (1 : Int32))) (L2 := [some (.inr a0), some (.inl a1), some (.inl a2), some (.inr v3), some (.inl v5), some (.inl v6), none, none, some (.inl (s8_32 + (1 : Int32))), some (.inr v35)]) dX3_stops_225 (by decide) rfl rfl rfl ?_
            refine G_goto F (tgt := 134) dX3_stops_228 (by decide) ?_
            cases h
            exact G_sub F (L2 := [some (.inr a0), some (.inl a1), some (.inl a2), some (.inr v3), some (.inl v5), some (.inl v6), none, none, some (.inl (s8_32 + (1 : Int32))), none]) ⟨rfl, ⟨rfl, ⟨rfl, ⟨rfl, ⟨rfl, ⟨rfl, ⟨rfl, trivial⟩⟩⟩⟩⟩⟩⟩ (hP32 _ rfl)
          · have h := itt c42 h
            refine G_aload F dX3_stops_179 rfl ?_
            obtain ⟨v43, e_v43, h⟩ := bnd h
            refine G_getIN F okX4 (f := 2) (by decide) q201 rfl dX3_stops_181 e_v43 ?_
            refine G_aload_n F dX3_stops_184 rfl ?_
            obtain ⟨v44, e_v44, h⟩ := bnd h
            refine G_getRN F okX6 (f := 1) (by decide) q302 rfl dX3_stops_185 e_v44 ?_
            refine G_iload_n F dX3_stops_188 rfl ?_
            obtain ⟨v45, e_v45, h⟩ := bnd h
            refine G_iald F dX3_stops_189 e_v45 ?_
            refine G_aload_n F dX3_stops_190 rfl ?_
            obtain ⟨v46, e_v46, h⟩ := bnd h
            refine G_getR F okX3 (f := 1) (by decide) q227 rfl dX3_stops_191 e_v46 ?_
            refine G_iload_n F dX3_stops_194 rfl ?_
            obtain ⟨v47, e_v47, h⟩ := bnd h
            refine G_iald F dX3_stops_195 e_v47 ?_
            refine G_iadd F dX3_stops_196 ?_
            refine G_icmp_gt F (tgt := 225) dX3_stops_197 (by decide) (fun c48 => ?_) (fun c48 => ?_)
            · have h := itt c48 h
              refine G_iinc F (v := (s8_32 + (1 : Int32))) (L2 := [some (.inr a0), some (.inl a1), some (.inl a2), some (.inr v3), some (.inl v5), some (.inl v6), none, none, some (.inl (s8_32 + (1 : Int32))), some (.inr v35)]) dX3_stops_225 (by decide) rfl rfl rfl ?_
              refine G_goto F (tgt := 134) dX3_stops_228 (by decide) ?_
              cases h
              exact G_sub F (L2 := [some (.inr a0), some (.inl a1), some (.inl a2), some (.inr v3), some (.inl v5), some (.inl v6), none, none, some (.inl (s8_32 + (1 : Int32))), none]) ⟨rfl, ⟨rfl, ⟨rfl, ⟨rfl, ⟨rfl, ⟨rfl, ⟨rfl, trivial⟩⟩⟩⟩⟩⟩⟩ (hP32 _ rfl)
            · have h := itf c48 h
              refine G_aload_n F dX3_stops_200 rfl ?_
              refine G_aload F dX3_stops_201 rfl ?_
              obtain ⟨v49, e_v49, h⟩ := bnd h
              refine G_getIN F okX4 (f := 1) (by decide) q198 rfl dX3_stops_203 e_v49 ?_
              obtain ⟨v50, e_v50, h⟩ := bnd h
              obtain ⟨hc_v50, e_v50⟩ := hp_on_of e_v50
              refine G_callVv F (As := [.inl v49]) (st := []) (metX6_stopAt X e_v50) hc_v50 rfl rfl (lw_V q999 q803 q804 q108 q805) hdfX6_stopAt ⟨by omega, by decide⟩ rfl (Nat.le_of_ble_eq_true rfl) ⟨by omega, by omega⟩ dX3_stops_206 ?_
              refine G_iload_n F dX3_stops_209 rfl ?_
              refine G_icmp_le F (tgt := 225) dX3_stops_210 (by decide) (fun c51 => ?_) (fun c51 => ?_)
              · have h := itt c51 h
                refine G_iinc F (v := (s8_32 + (1 : Int32))) (L2 := [some (.inr a0), some (.inl a1), some (.inl a2), some (.inr v3), some (.inl v5), some (.inl v6), none, none, some (.inl (s8_32 + (1 : Int32))), some (.inr v35)]) dX3_stops_225 (by decide) rfl rfl rfl ?_
                refine G_goto F (tgt := 134) dX3_stops_228 (by decide) ?_
                cases h
                exact G_sub F (L2 := [some (.inr a0), some (.inl a1), some (.inl a2), some (.inr v3), some (.inl v5), some (.inl v6), none, none, some (.inl (s8_32 + (1 : Int32))), none]) ⟨rfl, ⟨rfl, ⟨rfl, ⟨rfl, ⟨rfl, ⟨rfl, ⟨rfl, trivial⟩⟩⟩⟩⟩⟩⟩ (hP32 _ rfl)
              · have h := itf c51 h
                refine G_aload_n F dX3_stops_213 rfl ?_
                refine G_iload F dX3_stops_214 rfl ?_
                refine G_iload_n F dX3_stops_216 rfl ?_
                refine G_iload F dX3_stops_217 rfl ?_
                refine G_iload_n F dX3_stops_219 rfl ?_
                refine G_iload F dX3_stops_220 rfl ?_
                obtain ⟨m52, e_m52, h⟩ := bnd h
                obtain ⟨hc_m52, e_m52⟩ := hp_on_of e_m52
                refine G_callV0 F (As := [.inl s8_32, .inl a1, .inl v5, .inl a2, .inl v6]) (st := []) (metX3_boards X e_m52) hc_m52 rfl rfl (lw_V q1000 q1002 qs27 q105 q1003) hdfX3_boards ⟨by omega, by decide⟩ rfl (Nat.le_of_ble_eq_true rfl) ⟨by omega, by omega⟩ dX3_stops_222 ?_
                refine G_iinc F (v := (s8_32 + (1 : Int32))) (L2 := [some (.inr a0), some (.inl a1), some (.inl a2), some (.inr v3), some (.inl v5), some (.inl v6), none, none, some (.inl (s8_32 + (1 : Int32))), some (.inr v35)]) dX3_stops_225 (by decide) rfl rfl rfl ?_
                refine G_goto F (tgt := 134) dX3_stops_228 (by decide) ?_
                cases h
                exact G_sub F (L2 := [some (.inr a0), some (.inl a1), some (.inl a2), some (.inr v3), some (.inl v5), some (.inl v6), none, none, some (.inl (s8_32 + (1 : Int32))), none]) ⟨rfl, ⟨rfl, ⟨rfl, ⟨rfl, ⟨rfl, ⟨rfl, ⟨rfl, trivial⟩⟩⟩⟩⟩⟩⟩ (hP32 _ rfl)
  have hI := iter_ok (fun (s : (Int32 × Hp)) => match s with | (s8_32, m32) => G X cx 10 (Qm X cx none m_ nx 0 0) (0) (0) m32 (nx) [some (.inr a0), some (.inl a1), some (.inl a2), some (.inr v3), some (.inl v5), some (.inl v6), none, none, some (.inl s8_32), none] [] 134) (fun q => q = r32) KB32 _ _ _ hr32 rfl
  exact G_sub F (L2 := [some (.inr a0), some (.inl a1), some (.inl a2), some (.inr v3), some (.inl v5), some (.inl v6), none, none, some (.inl (0 : Int32)), none]) ⟨rfl, ⟨rfl, ⟨rfl, ⟨rfl, ⟨rfl, ⟨rfl, ⟨rfl, trivial⟩⟩⟩⟩⟩⟩⟩ hI

theorem metX3_dayGoes (X : Gx) {m : Hp} {nx : Nat} {a0 : Option Nat} {m_ : Hp} (h : fX3_dayGoes m a0 = some m_) : Con X (189) yX3_dayGoes cX3_dayGoes 2 ((none : Option FieldType)) [.inr a0] m nx none m_ 0 0 := by
  refine Con.of (own := RX3) (nm := "dayGoes") (L := [some (.inr a0), none]) (by decide +kernel) rfl rfl (Nat.le_of_ble_eq_true rfl) (ent_of 1 rfl) ?_
  intro cx F
  refine G_iconst F (v := (0 : Int32)) dX3_dayGoes_0 (by decide) ?_
  refine G_istore_n F (L2 := [some (.inr a0), some (.inl (0 : Int32))]) dX3_dayGoes_1 (by decide) rfl ?_
  obtain ⟨r1, hr1, h⟩ := bnd h
  have KE1 : ∀ (m5 : Hp), m5 = r1 → G X cx 2 (Qm X cx none m_ nx 0 0) (0) (0) m5 (nx) [some (.inr a0), none] [] 21 := by
    intro m5 hq
    subst hq
    try dsimp only at h
    refine G_iconst F (v := (0 : Int32)) dX3_dayGoes_21 (by decide) ?_
    refine G_istore_n F (L2 := [some (.inr a0), some (.inl (0 : Int32))]) dX3_dayGoes_22 (by decide) rfl ?_
    obtain ⟨r6, hr6, h⟩ := bnd h
    have KE6 : ∀ (m16 : Hp), m16 = r6 → G X cx 2 (Qm X cx none m_ nx 0 0) (0) (0) m16 (nx) [some (.inr a0), none] [] 58 := by
      intro m16 hq
      subst hq
      try dsimp only at h
      refine G_iconst F (v := (0 : Int32)) dX3_dayGoes_58 (by decide) ?_
      refine G_istore_n F (L2 := [some (.inr a0), some (.inl (0 : Int32))]) dX3_dayGoes_59 (by decide) rfl ?_
      obtain ⟨r17, hr17, h⟩ := bnd h
      have KE17 : ∀ (m36 : Hp), m36 = r17 → G X cx 2 (Qm X cx none m_ nx 0 0) (0) (0) m36 (nx) [some (.inr a0), none] [] 122 := by
        intro m36 hq
        subst hq
        try dsimp only at h
        refine G_aload_n F dX3_dayGoes_122 rfl ?_
        refine G_dup F dX3_dayGoes_123 ?_
        obtain ⟨v37, e_v37, h⟩ := bnd h
        refine G_getI F okX3 (f := 3) (by decide) q229 rfl dX3_dayGoes_124 e_v37 ?_
        refine G_iconst F (v := (1 : Int32)) dX3_dayGoes_127 (by decide) ?_
        refine G_iadd F dX3_dayGoes_128 ?_
        obtain ⟨m38, e_m38, h⟩ := bnd h
        refine G_putV F okX3 (f := 3) (by decide) q229 rfl rfl dX3_dayGoes_129 (vfit_int _) e_m38 ?_
        cases h
        exact G_vret F rfl (Nat.le_refl _) (Nat.le_refl _) rfl dX3_dayGoes_132
      have KB17 : ∀ s o17, fX3_dayGoes_L60 a0 s = some o17 → (∀ s', o17 = Sum.inl s' → (fun (s : (Int32 × Hp)) => match s with | (s1_17, m17) => G X cx 2 (Qm X cx none m_ nx 0 0) (0) (0) m17 (nx) [some (.inr a0), some (.inl s1_17)] [] 60) s') → (∀ q, o17 = Sum.inr q → q = r17) → (fun (s : (Int32 × Hp)) => match s with | (s1_17, m17) => G X cx 2 (Qm X cx none m_ nx 0 0) (0) (0) m17 (nx) [some (.inr a0), some (.inl s1_17)] [] 60) s := by
        intro s o17 h hP17 hE17
        obtain ⟨s1_17, m17⟩ := s
        try dsimp only at hP17 hE17 ⊢
        refine G_iload_n F dX3_dayGoes_60 rfl ?_
        refine G_aload_n F dX3_dayGoes_61 rfl ?_
        obtain ⟨v18, e_v18, h⟩ := bnd h
        refine G_getR F okX3 (f := 8) (by decide) q239 rfl dX3_dayGoes_62 e_v18 ?_
        obtain ⟨v19, e_v19, h⟩ := bnd h
        refine G_getIN F okX0 (f := 4) (by decide) q338 rfl dX3_dayGoes_65 e_v19 ?_
        refine G_icmp_ge F (tgt := 122) dX3_dayGoes_68 (by decide) (fun c20 => ?_) (fun c20 => ?_)
        · have h := itt c20 h
          cases h
          exact G_sub F (L2 := [some (.inr a0), none]) ⟨rfl, trivial⟩ (KE17 _ (hE17 _ rfl))
        · have h := itf c20 h
          refine G_aload_n F dX3_dayGoes_71 rfl ?_
          obtain ⟨v21, e_v21, h⟩ := bnd h
          refine G_getR F okX3 (f := 8) (by decide) q239 rfl dX3_dayGoes_72 e_v21 ?_
          obtain ⟨v22, e_v22, h⟩ := bnd h
          refine G_getRN F okX0 (f := 0) (by decide) q329 rfl dX3_dayGoes_75 e_v22 ?_
          refine G_aload_n F dX3_dayGoes_78 rfl ?_
          obtain ⟨v23, e_v23, h⟩ := bnd h
          refine G_getR F okX3 (f := 8) (by decide) q239 rfl dX3_dayGoes_79 e_v23 ?_
          obtain ⟨v24, e_v24, h⟩ := bnd h
          refine G_getRN F okX0 (f := 1) (by decide) q331 rfl dX3_dayGoes_82 e_v24 ?_
          refine G_iload_n F dX3_dayGoes_85 rfl ?_
          obtain ⟨v25, e_v25, h⟩ := bnd h
          refine G_iald F dX3_dayGoes_86 e_v25 ?_
          obtain ⟨v26, e_v26, h⟩ := bnd h
          refine G_aald F (t := 5) (by decide) dX3_dayGoes_87 e_v26 ?_
          obtain ⟨v27, e_v27, h⟩ := bnd h
          refine G_getIN F okX6 (f := 4) (by decide) q312 rfl dX3_dayGoes_88 e_v27 ?_
          refine G_if_eq F (tgt := 116) dX3_dayGoes_91 (by decide) (fun c28 => ?_) (fun c28 => ?_)
          · have h := itt c28 h
            refine G_iinc F (v := (s1_17 + (1 : Int32))) (L2 := [some (.inr a0), some (.inl (s1_17 + (1 : Int32)))]) dX3_dayGoes_116 (by decide) rfl rfl rfl ?_
            refine G_goto F (tgt := 60) dX3_dayGoes_119 (by decide) ?_
            cases h
            exact G_sub F (L2 := [some (.inr a0), some (.inl (s1_17 + (1 : Int32)))]) ⟨rfl, ⟨rfl, trivial⟩⟩ (hP17 _ rfl)
          · have h := itf c28 h
            refine G_aload_n F dX3_dayGoes_94 rfl ?_
            refine G_aload_n F dX3_dayGoes_95 rfl ?_
            obtain ⟨v29, e_v29, h⟩ := bnd h
            refine G_getR F okX3 (f := 8) (by decide) q239 rfl dX3_dayGoes_96 e_v29 ?_
            obtain ⟨v30, e_v30, h⟩ := bnd h
            refine G_getRN F okX0 (f := 1) (by decide) q331 rfl dX3_dayGoes_99 e_v30 ?_
            refine G_iload_n F dX3_dayGoes_102 rfl ?_
            obtain ⟨v31, e_v31, h⟩ := bnd h
            refine G_iald F dX3_dayGoes_103 e_v31 ?_
            refine G_aload_n F dX3_dayGoes_104 rfl ?_
            obtain ⟨v32, e_v32, h⟩ := bnd h
            refine G_getR F okX3 (f := 8) (by decide) q239 rfl dX3_dayGoes_105 e_v32 ?_
            obtain ⟨v33, e_v33, h⟩ := bnd h
            refine G_getRN F okX0 (f := 2) (by decide) q333 rfl dX3_dayGoes_108 e_v33 ?_
            refine G_iload_n F dX3_dayGoes_111 rfl ?_
            obtain ⟨v34, e_v34, h⟩ := bnd h
            refine G_iald F dX3_dayGoes_112 e_v34 ?_
            obtain ⟨m35, e_m35, h⟩ := bnd h
            obtain ⟨hc_m35, e_m35⟩ := hp_on_of e_m35
            refine G_callV0 F (As := [.inl v31, .inl v34]) (st := []) (metX3_stops X e_m35) hc_m35 rfl rfl (lw_V q918 q920 qs22 q105 q921) hdfX3_stops ⟨by omega, by decide⟩ rfl (Nat.le_of_ble_eq_true rfl) ⟨by omega, by omega⟩ dX3_dayGoes_113 ?_
            refine G_iinc F (v := (s1_17 + (1 : Int32))) (L2 := [some (.inr a0), some (.inl (s1_17 + (1 : Int32)))]) dX3_dayGoes_116 (by decide) rfl rfl rfl ?_
            refine G_goto F (tgt := 60) dX3_dayGoes_119 (by decide) ?_
            cases h
            exact G_sub F (L2 := [some (.inr a0), some (.inl (s1_17 + (1 : Int32)))]) ⟨rfl, ⟨rfl, trivial⟩⟩ (hP17 _ rfl)
      have hI := iter_ok (fun (s : (Int32 × Hp)) => match s with | (s1_17, m17) => G X cx 2 (Qm X cx none m_ nx 0 0) (0) (0) m17 (nx) [some (.inr a0), some (.inl s1_17)] [] 60) (fun q => q = r17) KB17 _ _ _ hr17 rfl
      exact G_sub F (L2 := [some (.inr a0), some (.inl (0 : Int32))]) ⟨rfl, ⟨rfl, trivial⟩⟩ hI
    have KB6 : ∀ s o6, fX3_dayGoes_L23 a0 s = some o6 → (∀ s', o6 = Sum.inl s' → (fun (s : (Int32 × Hp)) => match s with | (s1_6, m6) => G X cx 2 (Qm X cx none m_ nx 0 0) (0) (0) m6 (nx) [some (.inr a0), some (.inl s1_6)] [] 23) s') → (∀ q, o6 = Sum.inr q → q = r6) → (fun (s : (Int32 × Hp)) => match s with | (s1_6, m6) => G X cx 2 (Qm X cx none m_ nx 0 0) (0) (0) m6 (nx) [some (.inr a0), some (.inl s1_6)] [] 23) s := by
      intro s o6 h hP6 hE6
      obtain ⟨s1_6, m6⟩ := s
      try dsimp only at hP6 hE6 ⊢
      refine G_iload_n F dX3_dayGoes_23 rfl ?_
      refine G_aload_n F dX3_dayGoes_24 rfl ?_
      obtain ⟨v7, e_v7, h⟩ := bnd h
      refine G_getR F okX3 (f := 8) (by decide) q239 rfl dX3_dayGoes_25 e_v7 ?_
      obtain ⟨v8, e_v8, h⟩ := bnd h
      refine G_getIN F okX0 (f := 3) (by decide) q336 rfl dX3_dayGoes_28 e_v8 ?_
      refine G_icmp_ge F (tgt := 58) dX3_dayGoes_31 (by decide) (fun c9 => ?_) (fun c9 => ?_)
      · have h := itt c9 h
        cases h
        exact G_sub F (L2 := [some (.inr a0), none]) ⟨rfl, trivial⟩ (KE6 _ (hE6 _ rfl))
      · have h := itf c9 h
        refine G_aload_n F dX3_dayGoes_34 rfl ?_
        obtain ⟨v10, e_v10, h⟩ := bnd h
        refine G_getR F okX3 (f := 1) (by decide) q227 rfl dX3_dayGoes_35 e_v10 ?_
        refine G_iload_n F dX3_dayGoes_38 rfl ?_
        refine G_aload_n F dX3_dayGoes_39 rfl ?_
        obtain ⟨v11, e_v11, h⟩ := bnd h
        refine G_getR F okX3 (f := 8) (by decide) q239 rfl dX3_dayGoes_40 e_v11 ?_
        obtain ⟨v12, e_v12, h⟩ := bnd h
        refine G_getRN F okX0 (f := 0) (by decide) q329 rfl dX3_dayGoes_43 e_v12 ?_
        refine G_iload_n F dX3_dayGoes_46 rfl ?_
        obtain ⟨v13, e_v13, h⟩ := bnd h
        refine G_aald F (t := 5) (by decide) dX3_dayGoes_47 e_v13 ?_
        obtain ⟨v14, e_v14, h⟩ := bnd h
        refine G_getIN F okX6 (f := 3) (by decide) q308 rfl dX3_dayGoes_48 e_v14 ?_
        obtain ⟨m15, e_m15, h⟩ := bnd h
        refine G_iast F dX3_dayGoes_51 e_m15 ?_
        refine G_iinc F (v := (s1_6 + (1 : Int32))) (L2 := [some (.inr a0), some (.inl (s1_6 + (1 : Int32)))]) dX3_dayGoes_52 (by decide) rfl rfl rfl ?_
        refine G_goto F (tgt := 23) dX3_dayGoes_55 (by decide) ?_
        cases h
        exact G_sub F (L2 := [some (.inr a0), some (.inl (s1_6 + (1 : Int32)))]) ⟨rfl, ⟨rfl, trivial⟩⟩ (hP6 _ rfl)
    have hI := iter_ok (fun (s : (Int32 × Hp)) => match s with | (s1_6, m6) => G X cx 2 (Qm X cx none m_ nx 0 0) (0) (0) m6 (nx) [some (.inr a0), some (.inl s1_6)] [] 23) (fun q => q = r6) KB6 _ _ _ hr6 rfl
    exact G_sub F (L2 := [some (.inr a0), some (.inl (0 : Int32))]) ⟨rfl, ⟨rfl, trivial⟩⟩ hI
  have KB1 : ∀ s o1, fX3_dayGoes_L2 a0 s = some o1 → (∀ s', o1 = Sum.inl s' → (fun (s : (Int32 × Hp)) => match s with | (s1_1, m1) => G X cx 2 (Qm X cx none m_ nx 0 0) (0) (0) m1 (nx) [some (.inr a0), some (.inl s1_1)] [] 2) s') → (∀ q, o1 = Sum.inr q → q = r1) → (fun (s : (Int32 × Hp)) => match s with | (s1_1, m1) => G X cx 2 (Qm X cx none m_ nx 0 0) (0) (0) m1 (nx) [some (.inr a0), some (.inl s1_1)] [] 2) s := by
    intro s o1 h hP1 hE1
    obtain ⟨s1_1, m1⟩ := s
    try dsimp only at hP1 hE1 ⊢
    refine G_iload_n F dX3_dayGoes_2 rfl ?_
    refine G_bipush F (v := (12 : Int32)) dX3_dayGoes_3 (by decide) ?_
    refine G_icmp_ge F (tgt := 21) dX3_dayGoes_5 (by decide) (fun c2 => ?_) (fun c2 => ?_)
    · have h := itt c2 h
      cases h
      exact G_sub F (L2 := [some (.inr a0), none]) ⟨rfl, trivial⟩ (KE1 _ (hE1 _ rfl))
    · have h := itf c2 h
      refine G_aload_n F dX3_dayGoes_8 rfl ?_
      obtain ⟨v3, e_v3, h⟩ := bnd h
      refine G_getR F okX3 (f := 2) (by decide) q228 rfl dX3_dayGoes_9 e_v3 ?_
      refine G_iload_n F dX3_dayGoes_12 rfl ?_
      refine G_iconst F (v := (-1 : Int32)) dX3_dayGoes_13 (by decide) ?_
      obtain ⟨m4, e_m4, h⟩ := bnd h
      refine G_iast F dX3_dayGoes_14 e_m4 ?_
      refine G_iinc F (v := (s1_1 + (1 : Int32))) (L2 := [some (.inr a0), some (.inl (s1_1 + (1 : Int32)))]) dX3_dayGoes_15 (by decide) rfl rfl rfl ?_
      refine G_goto F (tgt := 2) dX3_dayGoes_18 (by decide) ?_
      cases h
      exact G_sub F (L2 := [some (.inr a0), some (.inl (s1_1 + (1 : Int32)))]) ⟨rfl, ⟨rfl, trivial⟩⟩ (hP1 _ rfl)
  have hI := iter_ok (fun (s : (Int32 × Hp)) => match s with | (s1_1, m1) => G X cx 2 (Qm X cx none m_ nx 0 0) (0) (0) m1 (nx) [some (.inr a0), some (.inl s1_1)] [] 2) (fun q => q = r1) KB1 _ _ _ hr1 rfl
  exact G_sub F (L2 := [some (.inr a0), some (.inl (0 : Int32))]) ⟨rfl, ⟨rfl, trivial⟩⟩ hI

theorem metX3_goes (X : Gx) {m : Hp} {nx : Nat} {a0 : Option Nat} {a1 : Int32} {rv : Option Nat} {m_ : Hp} (h : fX3_goes m a0 a1 = some (rv, m_)) : Con X (190) yX3_goes cX3_goes 3 ((Option.some (FieldType.object "MissedTrains$Platform"))) [.inr a0, .inl a1] m nx (some (.inr rv)) m_ 0 0 := by
  refine Con.of (own := RX3) (nm := "goes") (L := [some (.inr a0), some (.inl a1), none]) (by decide +kernel) rfl rfl (Nat.le_of_ble_eq_true rfl) (ent_of 1 rfl) ?_
  intro cx F
  refine G_aload_n F dX3_goes_0 rfl ?_
  refine G_iconst F (v := (0 : Int32)) dX3_goes_1 (by decide) ?_
  obtain ⟨m1, e_m1, h⟩ := bnd h
  refine G_putV F okX3 (f := 5) (by decide) q233 rfl rfl dX3_goes_2 (vfit_int _) e_m1 ?_
  refine G_aload_n F dX3_goes_5 rfl ?_
  refine G_iconst F (v := (0 : Int32)) dX3_goes_6 (by decide) ?_
  obtain ⟨m2, e_m2, h⟩ := bnd h
  refine G_putV F okX3 (f := 6) (by decide) q235 rfl rfl dX3_goes_7 (vfit_int _) e_m2 ?_
  refine G_aload_n F dX3_goes_10 rfl ?_
  refine G_iconst F (v := (0 : Int32)) dX3_goes_11 (by decide) ?_
  obtain ⟨m3, e_m3, h⟩ := bnd h
  refine G_putV F okX3 (f := 7) (by decide) q237 rfl rfl dX3_goes_12 (vfit_int _) e_m3 ?_
  refine G_iconst F (v := (0 : Int32)) dX3_goes_15 (by decide) ?_
  refine G_istore_n F (L2 := [some (.inr a0), some (.inl a1), some (.inl (0 : Int32))]) dX3_goes_16 (by decide) rfl ?_
  obtain ⟨r4, hr4, h⟩ := bnd h
  have KE4 : ∀ (m9 : Hp), m9 = r4 → G X cx 3 (Qm X cx (some (.inr rv)) m_ nx 0 0) (0) (0) m9 (nx) [some (.inr a0), none, none] [] 42 := by
    intro m9 hq
    subst hq
    try dsimp only at h
    refine G_aload_n F dX3_goes_42 rfl ?_
    cases h
    exact G_aret F rfl (Nat.le_refl _) (Nat.le_refl _) rfl dX3_goes_43
  have KB4 : ∀ s o4, fX3_goes_L17 a0 a1 s = some o4 → (∀ s', o4 = Sum.inl s' → (fun (s : (Int32 × Hp)) => match s with | (s2_4, m4) => G X cx 3 (Qm X cx (some (.inr rv)) m_ nx 0 0) (0) (0) m4 (nx) [some (.inr a0), some (.inl a1), some (.inl s2_4)] [] 17) s') → (∀ q, o4 = Sum.inr q → q = r4) → (fun (s : (Int32 × Hp)) => match s with | (s2_4, m4) => G X cx 3 (Qm X cx (some (.inr rv)) m_ nx 0 0) (0) (0) m4 (nx) [some (.inr a0), some (.inl a1), some (.inl s2_4)] [] 17) s := by
    intro s o4 h hP4 hE4
    obtain ⟨s2_4, m4⟩ := s
    try dsimp only at hP4 hE4 ⊢
    refine G_iload_n F dX3_goes_17 rfl ?_
    refine G_iload_n F dX3_goes_18 rfl ?_
    refine G_icmp_ge F (tgt := 42) dX3_goes_19 (by decide) (fun c5 => ?_) (fun c5 => ?_)
    · have h := itt c5 h
      cases h
      exact G_sub F (L2 := [some (.inr a0), none, none]) ⟨rfl, trivial⟩ (KE4 _ (hE4 _ rfl))
    · have h := itf c5 h
      refine G_aload_n F dX3_goes_22 rfl ?_
      obtain ⟨v6, e_v6, h⟩ := bnd h
      refine G_getI F okX3 (f := 3) (by decide) q229 rfl dX3_goes_23 e_v6 ?_
      refine G_sipush F (v := (9999 : Int32)) dX3_goes_26 (by decide) ?_
      refine G_icmp_ge F (tgt := 42) dX3_goes_29 (by decide) (fun c7 => ?_) (fun c7 => ?_)
      · have h := itt c7 h
        cases h
        exact G_sub F (L2 := [some (.inr a0), none, none]) ⟨rfl, trivial⟩ (KE4 _ (hE4 _ rfl))
      · have h := itf c7 h
        refine G_aload_n F dX3_goes_32 rfl ?_
        obtain ⟨m8, e_m8, h⟩ := bnd h
        obtain ⟨hc_m8, e_m8⟩ := hp_on_of e_m8
        refine G_callV0 F (As := []) (st := []) (metX3_dayGoes X e_m8) hc_m8 rfl rfl (lw_V q914 q916 qs21 q105 q917) hdfX3_dayGoes ⟨by omega, by decide⟩ rfl (Nat.le_of_ble_eq_true rfl) ⟨by omega, by omega⟩ dX3_goes_33 ?_
        refine G_iinc F (v := (s2_4 + (1 : Int32))) (L2 := [some (.inr a0), some (.inl a1), some (.inl (s2_4 + (1 : Int32)))]) dX3_goes_36 (by decide) rfl rfl rfl ?_
        refine G_goto F (tgt := 17) dX3_goes_39 (by decide) ?_
        cases h
        exact G_sub F (L2 := [some (.inr a0), some (.inl a1), some (.inl (s2_4 + (1 : Int32)))]) ⟨rfl, ⟨rfl, ⟨rfl, trivial⟩⟩⟩ (hP4 _ rfl)
  have hI := iter_ok (fun (s : (Int32 × Hp)) => match s with | (s2_4, m4) => G X cx 3 (Qm X cx (some (.inr rv)) m_ nx 0 0) (0) (0) m4 (nx) [some (.inr a0), some (.inl a1), some (.inl s2_4)] [] 17) (fun q => q = r4) KB4 _ _ _ hr4 rfl
  exact G_sub F (L2 := [some (.inr a0), some (.inl a1), some (.inl (0 : Int32))]) ⟨rfl, ⟨rfl, ⟨rfl, trivial⟩⟩⟩ hI

theorem metX0_days (X : Gx) {m : Hp} {nx : Nat} {a0 : Option Nat} {a1 : Int32} {rv : Int32} {m_ : Hp} (h : fX0_days m a0 a1 = some (rv, m_)) : Con X (191) yX0_days cX0_days 2 ((Option.some FieldType.int)) [.inr a0, .inl a1] m nx (some (.inl rv)) m_ 0 0 := by
  refine Con.of (own := RX0) (nm := "days") (L := [some (.inr a0), some (.inl a1)]) (by decide +kernel) rfl rfl (Nat.le_of_ble_eq_true rfl) (ent_of 0 rfl) ?_
  intro cx F
  refine G_iload_n F dX0_days_0 rfl ?_
  refine G_iconst F (v := (1 : Int32)) dX0_days_1 (by decide) ?_
  refine G_bipush F (v := (30 : Int32)) dX0_days_2 (by decide) ?_
  obtain ⟨v1, e_v1, h⟩ := bnd h
  refine G_callSv F (As := [.inl a1, .inl (1 : Int32), .inl (30 : Int32)]) (st := []) (metX0_within X e_v1) (lw_S q422 q423 q102 q424) hdfX0_within ⟨by omega, by decide⟩ rfl (Nat.le_of_ble_eq_true rfl) ⟨by omega, by omega⟩ dX0_days_4 ?_
  refine G_if_eq F (tgt := 24) dX0_days_7 (by decide) (fun c2 => ?_) (fun c2 => ?_)
  · have h := itt c2 h
    refine G_iconst F (v := (-1 : Int32)) dX0_days_24 (by decide) ?_
    cases h
    exact G_iret F rfl (Nat.le_refl _) (Nat.le_refl _) rfl dX0_days_25
  · have h := itf c2 h
    refine G_aload_n F dX0_days_10 rfl ?_
    obtain ⟨v3, e_v3, h⟩ := bnd h
    refine G_getR F okX0 (f := 7) (by decide) q342 rfl dX0_days_11 e_v3 ?_
    refine G_iload_n F dX0_days_14 rfl ?_
    obtain ⟨⟨v4, m5⟩, e_v4, h⟩ := bnd h
    obtain ⟨hc_v4, e_v4⟩ := hp_on_of e_v4
    refine G_callVv F (As := [.inl a1]) (st := []) (metX3_goes X e_v4) hc_v4 rfl rfl (lw_V q910 q911 q912 q105 q913) hdfX3_goes ⟨by omega, by decide⟩ rfl (Nat.le_of_ble_eq_true rfl) ⟨by omega, by omega⟩ dX0_days_15 ?_
    obtain ⟨v6, e_v6, h⟩ := bnd h
    refine G_getIN F okX3 (f := 5) (by decide) q234 rfl dX0_days_18 e_v6 ?_
    refine G_goto F (tgt := 25) dX0_days_21 (by decide) ?_
    cases h
    exact G_iret F rfl (Nat.le_refl _) (Nat.le_refl _) rfl dX0_days_25

theorem metX4_takes (X : Gx) {m : Hp} {nx : Nat} {a0 : Option Nat} {a1 : Option Nat} {m_ : Hp} (h : fX4_takes m a0 a1 = some m_) : Con X (1) yX4_takes cX4_takes 2 ((none : Option FieldType)) [.inr a0, .inr a1] m nx none m_ 0 0 := by
  refine Con.of (own := RX4) (nm := "takes") (L := [some (.inr a0), some (.inr a1)]) (by decide +kernel) rfl rfl (Nat.le_of_ble_eq_true rfl) (ent_of 0 rfl) ?_
  intro cx F
  refine G_aload_n F dX4_takes_0 rfl ?_
  refine G_aload_n F dX4_takes_1 rfl ?_
  obtain ⟨v1, e_v1, h⟩ := bnd h
  refine G_getI F okX4 (f := 0) (by decide) q194 rfl dX4_takes_2 e_v1 ?_
  obtain ⟨m2, e_m2, h⟩ := bnd h
  refine G_putV F okX4 (f := 0) (by decide) q194 rfl rfl dX4_takes_5 (vfit_int _) e_m2 ?_
  refine G_aload_n F dX4_takes_8 rfl ?_
  refine G_aload_n F dX4_takes_9 rfl ?_
  obtain ⟨v3, e_v3, h⟩ := bnd h
  refine G_getI F okX4 (f := 1) (by decide) q197 rfl dX4_takes_10 e_v3 ?_
  obtain ⟨m4, e_m4, h⟩ := bnd h
  refine G_putV F okX4 (f := 1) (by decide) q197 rfl rfl dX4_takes_13 (vfit_int _) e_m4 ?_
  refine G_aload_n F dX4_takes_16 rfl ?_
  refine G_aload_n F dX4_takes_17 rfl ?_
  obtain ⟨v5, e_v5, h⟩ := bnd h
  refine G_getI F okX4 (f := 2) (by decide) q200 rfl dX4_takes_18 e_v5 ?_
  obtain ⟨m6, e_m6, h⟩ := bnd h
  refine G_putV F okX4 (f := 2) (by decide) q200 rfl rfl dX4_takes_21 (vfit_int _) e_m6 ?_
  refine G_aload_n F dX4_takes_24 rfl ?_
  refine G_aload_n F dX4_takes_25 rfl ?_
  obtain ⟨v7, e_v7, h⟩ := bnd h
  refine G_getI F okX4 (f := 3) (by decide) q203 rfl dX4_takes_26 e_v7 ?_
  obtain ⟨m8, e_m8, h⟩ := bnd h
  refine G_putV F okX4 (f := 3) (by decide) q203 rfl rfl dX4_takes_29 (vfit_int _) e_m8 ?_
  refine G_aload_n F dX4_takes_32 rfl ?_
  refine G_aload_n F dX4_takes_33 rfl ?_
  obtain ⟨v9, e_v9, h⟩ := bnd h
  refine G_getI F okX4 (f := 4) (by decide) q206 rfl dX4_takes_34 e_v9 ?_
  obtain ⟨m10, e_m10, h⟩ := bnd h
  refine G_putV F okX4 (f := 4) (by decide) q206 rfl rfl dX4_takes_37 (vfit_int _) e_m10 ?_
  refine G_aload_n F dX4_takes_40 rfl ?_
  refine G_aload_n F dX4_takes_41 rfl ?_
  obtain ⟨v11, e_v11, h⟩ := bnd h
  refine G_getI F okX4 (f := 5) (by decide) q209 rfl dX4_takes_42 e_v11 ?_
  obtain ⟨m12, e_m12, h⟩ := bnd h
  refine G_putV F okX4 (f := 5) (by decide) q209 rfl rfl dX4_takes_45 (hp_pZ_of e_m12).1 (hp_pZ_of e_m12).2 ?_
  cases h
  exact G_vret F rfl (Nat.le_refl _) (Nat.le_refl _) rfl dX4_takes_48

theorem metX3_takes (X : Gx) {m : Hp} {nx : Nat} {a0 : Option Nat} {a1 : Option Nat} {rv : Option Nat} {m_ : Hp} (h : fX3_takes m a0 a1 = some (rv, m_)) : Con X (2) yX3_takes cX3_takes 3 ((Option.some (FieldType.object "MissedTrains$Platform"))) [.inr a0, .inr a1] m nx (some (.inr rv)) m_ 0 0 := by
  refine Con.of (own := RX3) (nm := "takes") (L := [some (.inr a0), some (.inr a1), none]) (by decide +kernel) rfl rfl (Nat.le_of_ble_eq_true rfl) (ent_of 1 rfl) ?_
  intro cx F
  refine G_iconst F (v := (0 : Int32)) dX3_takes_0 (by decide) ?_
  refine G_istore_n F (L2 := [some (.inr a0), some (.inr a1), some (.inl (0 : Int32))]) dX3_takes_1 (by decide) rfl ?_
  obtain ⟨r1, hr1, h⟩ := bnd h
  have KE1 : ∀ (m8 : Hp), m8 = r1 → G X cx 3 (Qm X cx (some (.inr rv)) m_ nx 0 0) (0) (0) m8 (nx) [some (.inr a0), some (.inr a1), none] [] 29 := by
    intro m8 hq
    subst hq
    try dsimp only at h
    refine G_aload_n F dX3_takes_29 rfl ?_
    refine G_aload_n F dX3_takes_30 rfl ?_
    obtain ⟨v9, e_v9, h⟩ := bnd h
    refine G_getI F okX3 (f := 3) (by decide) q229 rfl dX3_takes_31 e_v9 ?_
    obtain ⟨m10, e_m10, h⟩ := bnd h
    refine G_putV F okX3 (f := 3) (by decide) q229 rfl rfl dX3_takes_34 (vfit_int _) e_m10 ?_
    refine G_aload_n F dX3_takes_37 rfl ?_
    refine G_aload_n F dX3_takes_38 rfl ?_
    obtain ⟨v11, e_v11, h⟩ := bnd h
    refine G_getI F okX3 (f := 4) (by decide) q231 rfl dX3_takes_39 e_v11 ?_
    obtain ⟨m12, e_m12, h⟩ := bnd h
    refine G_putV F okX3 (f := 4) (by decide) q231 rfl rfl dX3_takes_42 (vfit_int _) e_m12 ?_
    refine G_aload_n F dX3_takes_45 rfl ?_
    cases h
    exact G_aret F rfl (Nat.le_refl _) (Nat.le_refl _) rfl dX3_takes_46
  have KB1 : ∀ s o1, fX3_takes_L2 a0 a1 s = some o1 → (∀ s', o1 = Sum.inl s' → (fun (s : (Int32 × Hp)) => match s with | (s2_1, m1) => G X cx 3 (Qm X cx (some (.inr rv)) m_ nx 0 0) (0) (0) m1 (nx) [some (.inr a0), some (.inr a1), some (.inl s2_1)] [] 2) s') → (∀ q, o1 = Sum.inr q → q = r1) → (fun (s : (Int32 × Hp)) => match s with | (s2_1, m1) => G X cx 3 (Qm X cx (some (.inr rv)) m_ nx 0 0) (0) (0) m1 (nx) [some (.inr a0), some (.inr a1), some (.inl s2_1)] [] 2) s := by
    intro s o1 h hP1 hE1
    obtain ⟨s2_1, m1⟩ := s
    try dsimp only at hP1 hE1 ⊢
    refine G_iload_n F dX3_takes_2 rfl ?_
    refine G_bipush F (v := (12 : Int32)) dX3_takes_3 (by decide) ?_
    refine G_icmp_ge F (tgt := 29) dX3_takes_5 (by decide) (fun c2 => ?_) (fun c2 => ?_)
    · have h := itt c2 h
      cases h
      exact G_sub F (L2 := [some (.inr a0), some (.inr a1), none]) ⟨rfl, ⟨rfl, trivial⟩⟩ (KE1 _ (hE1 _ rfl))
    · have h := itf c2 h
      refine G_aload_n F dX3_takes_8 rfl ?_
      obtain ⟨v3, e_v3, h⟩ := bnd h
      refine G_getR F okX3 (f := 0) (by decide) q225 rfl dX3_takes_9 e_v3 ?_
      refine G_iload_n F dX3_takes_12 rfl ?_
      obtain ⟨v4, e_v4, h⟩ := bnd h
      refine G_aald F (t := 6) (by decide) dX3_takes_13 e_v4 ?_
      refine G_aload_n F dX3_takes_14 rfl ?_
      obtain ⟨v5, e_v5, h⟩ := bnd h
      refine G_getR F okX3 (f := 0) (by decide) q225 rfl dX3_takes_15 e_v5 ?_
      refine G_iload_n F dX3_takes_18 rfl ?_
      obtain ⟨v6, e_v6, h⟩ := bnd h
      refine G_aald F (t := 6) (by decide) dX3_takes_19 e_v6 ?_
      obtain ⟨m7, e_m7, h⟩ := bnd h
      obtain ⟨hc_m7, e_m7⟩ := hp_on_of e_m7
      refine G_callV0 F (As := [.inr v6]) (st := []) (metX4_takes X e_m7) hc_m7 rfl rfl (lw_V q1024 q1025 q1026 q106 q1027) hdfX4_takes ⟨by omega, by decide⟩ rfl (Nat.le_of_ble_eq_true rfl) ⟨by omega, by omega⟩ dX3_takes_20 ?_
      refine G_iinc F (v := (s2_1 + (1 : Int32))) (L2 := [some (.inr a0), some (.inr a1), some (.inl (s2_1 + (1 : Int32)))]) dX3_takes_23 (by decide) rfl rfl rfl ?_
      refine G_goto F (tgt := 2) dX3_takes_26 (by decide) ?_
      cases h
      exact G_sub F (L2 := [some (.inr a0), some (.inr a1), some (.inl (s2_1 + (1 : Int32)))]) ⟨rfl, ⟨rfl, ⟨rfl, trivial⟩⟩⟩ (hP1 _ rfl)
  have hI := iter_ok (fun (s : (Int32 × Hp)) => match s with | (s2_1, m1) => G X cx 3 (Qm X cx (some (.inr rv)) m_ nx 0 0) (0) (0) m1 (nx) [some (.inr a0), some (.inr a1), some (.inl s2_1)] [] 2) (fun q => q = r1) KB1 _ _ _ hr1 rfl
  exact G_sub F (L2 := [some (.inr a0), some (.inr a1), some (.inl (0 : Int32))]) ⟨rfl, ⟨rfl, ⟨rfl, trivial⟩⟩⟩ hI

theorem metX0_tried (X : Gx) {m : Hp} {nx : Nat} {a0 : Option Nat} {a1 : Int32} {a2 : Int32} {rv : Int32} {m_ : Hp} (h : fX0_tried m a0 a1 a2 = some (rv, m_)) : Con X (191) yX0_tried cX0_tried 3 ((Option.some FieldType.int)) [.inr a0, .inl a1, .inl a2] m nx (some (.inl rv)) m_ 0 0 := by
  refine Con.of (own := RX0) (nm := "tried") (L := [some (.inr a0), some (.inl a1), some (.inl a2)]) (by decide +kernel) rfl rfl (Nat.le_of_ble_eq_true rfl) (ent_of 0 rfl) ?_
  intro cx F
  refine G_iload_n F dX0_tried_0 rfl ?_
  refine G_iconst F (v := (1 : Int32)) dX0_tried_1 (by decide) ?_
  refine G_bipush F (v := (30 : Int32)) dX0_tried_2 (by decide) ?_
  obtain ⟨v1, e_v1, h⟩ := bnd h
  refine G_callSv F (As := [.inl a1, .inl (1 : Int32), .inl (30 : Int32)]) (st := []) (metX0_within X e_v1) (lw_S q422 q423 q102 q424) hdfX0_within ⟨by omega, by decide⟩ rfl (Nat.le_of_ble_eq_true rfl) ⟨by omega, by omega⟩ dX0_tried_4 ?_
  refine G_if_eq F (tgt := 41) dX0_tried_7 (by decide) (fun c2 => ?_) (fun c2 => ?_)
  · have h := itt c2 h
    refine G_iconst F (v := (-1 : Int32)) dX0_tried_41 (by decide) ?_
    cases h
    exact G_iret F rfl (Nat.le_refl _) (Nat.le_refl _) rfl dX0_tried_42
  · have h := itf c2 h
    refine G_iload_n F dX0_tried_10 rfl ?_
    refine G_iconst F (v := (3 : Int32)) dX0_tried_11 (by decide) ?_
    obtain ⟨v3, e_v3, h⟩ := bnd h
    refine G_callSv F (As := [.inl a2, .inl (3 : Int32)]) (st := []) (metX0_in X e_v3) (lw_S q409 q410 q102 q411) hdfX0_in ⟨by omega, by decide⟩ rfl (Nat.le_of_ble_eq_true rfl) ⟨by omega, by omega⟩ dX0_tried_12 ?_
    obtain ⟨p4, hp4, h⟩ := bnd h
    have K4 : ∀ (_ : Unit), Sum.inl () = p4 → G X cx 3 (Qm X cx (some (.inl rv)) m_ nx 0 0) (0) (0) m (nx) [some (.inr a0), some (.inl a1), some (.inl a2)] [] 43 := by
      intro _ hq
      subst hq
      try dsimp only at h
      refine G_aload_n F dX0_tried_43 rfl ?_
      obtain ⟨v5, e_v5, h⟩ := bnd h
      refine G_getR F okX0 (f := 8) (by decide) q343 rfl dX0_tried_44 e_v5 ?_
      refine G_aload_n F dX0_tried_47 rfl ?_
      obtain ⟨v6, e_v6, h⟩ := bnd h
      refine G_getR F okX0 (f := 7) (by decide) q342 rfl dX0_tried_48 e_v6 ?_
      obtain ⟨⟨v7, m8⟩, e_v7, h⟩ := bnd h
      obtain ⟨hc_v7, e_v7⟩ := hp_on_of e_v7
      refine G_callVv F (As := [.inr v6]) (st := []) (metX3_takes X e_v7) hc_v7 rfl rfl (lw_V q1020 q1021 q1022 q105 q1023) hdfX3_takes ⟨by omega, by decide⟩ rfl (Nat.le_of_ble_eq_true rfl) ⟨by omega, by omega⟩ dX0_tried_51 ?_
      refine G_iload_n F dX0_tried_54 rfl ?_
      obtain ⟨⟨v9, m10⟩, e_v9, h⟩ := bnd h
      obtain ⟨hc_v9, e_v9⟩ := hp_on_of e_v9
      refine G_callVv F (As := [.inl a1]) (st := []) (metX3_goes X e_v9) hc_v9 rfl rfl (lw_V q910 q911 q912 q105 q913) hdfX3_goes ⟨by omega, by decide⟩ rfl (Nat.le_of_ble_eq_true rfl) ⟨by omega, by omega⟩ dX0_tried_55 ?_
      refine G_pop F dX0_tried_58 ?_
      refine G_iload_n F dX0_tried_59 rfl ?_
      by_cases c11 : a2 = (0 : Int32)
      · have h := itt c11 h
        refine G_tabIn F (tgt := 88) dX0_tried_60 (by rw [c11]; decide) (by rw [c11]; decide) (by rw [c11]; rfl) (by decide) ?_
        refine G_aload_n F dX0_tried_88 rfl ?_
        obtain ⟨v12, e_v12, h⟩ := bnd h
        refine G_getR F okX0 (f := 8) (by decide) q343 rfl dX0_tried_89 e_v12 ?_
        obtain ⟨v13, e_v13, h⟩ := bnd h
        refine G_getIN F okX3 (f := 5) (by decide) q234 rfl dX0_tried_92 e_v13 ?_
        cases h
        exact G_iret F rfl (Nat.le_refl _) (Nat.le_refl _) rfl dX0_tried_95
      have h := itf c11 h
      by_cases c14 : a2 = (1 : Int32)
      · have h := itt c14 h
        refine G_tabIn F (tgt := 96) dX0_tried_60 (by rw [c14]; decide) (by rw [c14]; decide) (by rw [c14]; rfl) (by decide) ?_
        refine G_aload_n F dX0_tried_96 rfl ?_
        obtain ⟨v15, e_v15, h⟩ := bnd h
        refine G_getR F okX0 (f := 8) (by decide) q343 rfl dX0_tried_97 e_v15 ?_
        obtain ⟨v16, e_v16, h⟩ := bnd h
        refine G_getIN F okX3 (f := 6) (by decide) q236 rfl dX0_tried_100 e_v16 ?_
        cases h
        exact G_iret F rfl (Nat.le_refl _) (Nat.le_refl _) rfl dX0_tried_103
      have h := itf c14 h
      by_cases c17 : a2 = (2 : Int32)
      · have h := itt c17 h
        refine G_tabIn F (tgt := 104) dX0_tried_60 (by rw [c17]; decide) (by rw [c17]; decide) (by rw [c17]; rfl) (by decide) ?_
        refine G_aload_n F dX0_tried_104 rfl ?_
        obtain ⟨v18, e_v18, h⟩ := bnd h
        refine G_getR F okX0 (f := 8) (by decide) q343 rfl dX0_tried_105 e_v18 ?_
        obtain ⟨v19, e_v19, h⟩ := bnd h
        refine G_getIN F okX3 (f := 7) (by decide) q238 rfl dX0_tried_108 e_v19 ?_
        cases h
        exact G_iret F rfl (Nat.le_refl _) (Nat.le_refl _) rfl dX0_tried_111
      have h := itf c17 h
      refine G_tabDef F (tgt := 112) dX0_tried_60 [(0 : Int32), (1 : Int32), (2 : Int32)] (by decide) (by decide) (List.forall_mem_cons.mpr ⟨c11, List.forall_mem_cons.mpr ⟨c14, List.forall_mem_cons.mpr ⟨c17, fa_nil⟩⟩⟩) (by decide) ?_
      refine G_iload_n F dX0_tried_112 rfl ?_
      refine G_sipush F (v := (200 : Int32)) dX0_tried_113 (by decide) ?_
      refine G_icmp_ge F (tgt := 137) dX0_tried_116 (by decide) (fun c20 => ?_) (fun c20 => ?_)
      · have h := itt c20 h
        refine G_aload_n F dX0_tried_137 rfl ?_
        obtain ⟨v21, e_v21, h⟩ := bnd h
        refine G_getR F okX0 (f := 8) (by decide) q343 rfl dX0_tried_138 e_v21 ?_
        obtain ⟨v22, e_v22, h⟩ := bnd h
        refine G_getRN F okX3 (f := 0) (by decide) q226 rfl dX0_tried_141 e_v22 ?_
        refine G_iload_n F dX0_tried_144 rfl ?_
        refine G_sipush F (v := (200 : Int32)) dX0_tried_145 (by decide) ?_
        refine G_isub F dX0_tried_148 ?_
        obtain ⟨v23, e_v23, h⟩ := bnd h
        refine G_aald F (t := 6) (by decide) dX0_tried_149 e_v23 ?_
        obtain ⟨v24, e_v24, h⟩ := bnd h
        refine G_getIN F okX4 (f := 3) (by decide) q205 rfl dX0_tried_150 e_v24 ?_
        cases h
        exact G_iret F rfl (Nat.le_refl _) (Nat.le_refl _) rfl dX0_tried_153
      · have h := itf c20 h
        refine G_aload_n F dX0_tried_119 rfl ?_
        obtain ⟨v25, e_v25, h⟩ := bnd h
        refine G_getR F okX0 (f := 8) (by decide) q343 rfl dX0_tried_120 e_v25 ?_
        obtain ⟨v26, e_v26, h⟩ := bnd h
        refine G_getRN F okX3 (f := 0) (by decide) q226 rfl dX0_tried_123 e_v26 ?_
        refine G_iload_n F dX0_tried_126 rfl ?_
        refine G_bipush F (v := (100 : Int32)) dX0_tried_127 (by decide) ?_
        refine G_isub F dX0_tried_129 ?_
        obtain ⟨v27, e_v27, h⟩ := bnd h
        refine G_aald F (t := 6) (by decide) dX0_tried_130 e_v27 ?_
        obtain ⟨v28, e_v28, h⟩ := bnd h
        refine G_getIN F okX4 (f := 4) (by decide) q208 rfl dX0_tried_131 e_v28 ?_
        refine G_goto F (tgt := 153) dX0_tried_134 (by decide) ?_
        cases h
        exact G_iret F rfl (Nat.le_refl _) (Nat.le_refl _) rfl dX0_tried_153
    have K4o : ∀ o, Sum.inr o = p4 → some o = some (rv, m_) := by
      intro o hq
      subst hq
      exact h
    have h := hp4
    clear hp4
    refine G_if_ne F (tgt := 43) dX0_tried_15 (by decide) (fun c29 => ?_) (fun c29 => ?_)
    · have h := itf c29 h
      have hq_ := Option.some.inj h
      exact G_sub F (L2 := [some (.inr a0), some (.inl a1), some (.inl a2)]) ⟨rfl, ⟨rfl, ⟨rfl, trivial⟩⟩⟩ (K4 () hq_)
    · have h := itt c29 h
      refine G_aload_n F dX0_tried_18 rfl ?_
      refine G_iload_n F dX0_tried_19 rfl ?_
      refine G_bipush F (v := (100 : Int32)) dX0_tried_20 (by decide) ?_
      refine G_isub F dX0_tried_22 ?_
      obtain ⟨v30, e_v30, h⟩ := bnd h
      obtain ⟨hc_v30, e_v30⟩ := hp_on_of e_v30
      refine G_callVv F (As := [.inl (a2 - (100 : Int32))]) (st := []) (metX0_isTold X e_v30) hc_v30 rfl rfl (lw_V q1016 q1018 qs28 q102 q1019) hdfX0_isTold ⟨by omega, by decide⟩ rfl (Nat.le_of_ble_eq_true rfl) ⟨by omega, by omega⟩ dX0_tried_23 ?_
      refine G_if_ne F (tgt := 43) dX0_tried_26 (by decide) (fun c31 => ?_) (fun c31 => ?_)
      · have h := itf c31 h
        have hq_ := Option.some.inj h
        exact G_sub F (L2 := [some (.inr a0), some (.inl a1), some (.inl a2)]) ⟨rfl, ⟨rfl, ⟨rfl, trivial⟩⟩⟩ (K4 () hq_)
      · have h := itt c31 h
        refine G_aload_n F dX0_tried_29 rfl ?_
        refine G_iload_n F dX0_tried_30 rfl ?_
        refine G_sipush F (v := (200 : Int32)) dX0_tried_31 (by decide) ?_
        refine G_isub F dX0_tried_34 ?_
        obtain ⟨v32, e_v32, h⟩ := bnd h
        obtain ⟨hc_v32, e_v32⟩ := hp_on_of e_v32
        refine G_callVv F (As := [.inl (a2 - (200 : Int32))]) (st := []) (metX0_isTold X e_v32) hc_v32 rfl rfl (lw_V q1016 q1018 qs28 q102 q1019) hdfX0_isTold ⟨by omega, by decide⟩ rfl (Nat.le_of_ble_eq_true rfl) ⟨by omega, by omega⟩ dX0_tried_35 ?_
        refine G_if_ne F (tgt := 43) dX0_tried_38 (by decide) (fun c33 => ?_) (fun c33 => ?_)
        · have h := itf c33 h
          have hq_ := Option.some.inj h
          exact G_sub F (L2 := [some (.inr a0), some (.inl a1), some (.inl a2)]) ⟨rfl, ⟨rfl, ⟨rfl, trivial⟩⟩⟩ (K4 () hq_)
        · have h := itt c33 h
          refine G_iconst F (v := (-1 : Int32)) dX0_tried_41 (by decide) ?_
          have hq_ := Option.some.inj h
          have h := K4o _ hq_
          cases h
          exact G_iret F rfl (Nat.le_refl _) (Nat.le_refl _) rfl dX0_tried_42

theorem metX0_personIs (X : Gx) {m : Hp} {nx : Nat} {a0 : Option Nat} {a1 : Int32} {a2 : Int32} {rv : Int32} (h : fX0_personIs m a0 a1 a2 = some rv) : Con X (3) yX0_personIs cX0_personIs 4 ((Option.some FieldType.int)) [.inr a0, .inl a1, .inl a2] m nx (some (.inl rv)) m 0 0 := by
  refine Con.of (own := RX0) (nm := "personIs") (L := [some (.inr a0), some (.inl a1), some (.inl a2), none]) (by decide +kernel) rfl rfl (Nat.le_of_ble_eq_true rfl) (ent_of 1 rfl) ?_
  intro cx F
  refine G_aload_n F dX0_personIs_0 rfl ?_
  refine G_iload_n F dX0_personIs_1 rfl ?_
  obtain ⟨v1, e_v1, h⟩ := bnd h
  obtain ⟨hc_v1, e_v1⟩ := hp_on_of e_v1
  refine G_callVv F (As := [.inl a1]) (st := []) (metX0_isTold X e_v1) hc_v1 rfl rfl (lw_V q1016 q1018 qs28 q102 q1019) hdfX0_isTold ⟨by omega, by decide⟩ rfl (Nat.le_of_ble_eq_true rfl) ⟨by omega, by omega⟩ dX0_personIs_2 ?_
  refine G_if_ne F (tgt := 10) dX0_personIs_5 (by decide) (fun c2 => ?_) (fun c2 => ?_)
  · have h := itf c2 h
    refine G_aload_n F dX0_personIs_10 rfl ?_
    obtain ⟨v3, e_v3, h⟩ := bnd h
    refine G_getR F okX0 (f := 7) (by decide) q342 rfl dX0_personIs_11 e_v3 ?_
    obtain ⟨v4, e_v4, h⟩ := bnd h
    refine G_getRN F okX3 (f := 0) (by decide) q226 rfl dX0_personIs_14 e_v4 ?_
    refine G_iload_n F dX0_personIs_17 rfl ?_
    obtain ⟨v5, e_v5, h⟩ := bnd h
    refine G_aald F (t := 6) (by decide) dX0_personIs_18 e_v5 ?_
    refine G_astore_n F (L2 := [some (.inr a0), some (.inl a1), some (.inl a2), some (.inr v5)]) dX0_personIs_19 (by decide) rfl ?_
    refine G_iload_n F dX0_personIs_20 rfl ?_
    by_cases c6 : a2 = (0 : Int32)
    · have h := itt c6 h
      refine G_tabIn F (tgt := 56) dX0_personIs_21 (by rw [c6]; decide) (by rw [c6]; decide) (by rw [c6]; rfl) (by decide) ?_
      refine G_aload_n F dX0_personIs_56 rfl ?_
      obtain ⟨v7, e_v7, h⟩ := bnd h
      refine G_getIN F okX4 (f := 0) (by decide) q196 rfl dX0_personIs_57 e_v7 ?_
      cases h
      exact G_iret F rfl (Nat.le_refl _) (Nat.le_refl _) rfl dX0_personIs_60
    have h := itf c6 h
    by_cases c8 : a2 = (1 : Int32)
    · have h := itt c8 h
      refine G_tabIn F (tgt := 61) dX0_personIs_21 (by rw [c8]; decide) (by rw [c8]; decide) (by rw [c8]; rfl) (by decide) ?_
      refine G_aload_n F dX0_personIs_61 rfl ?_
      obtain ⟨v9, e_v9, h⟩ := bnd h
      refine G_getIN F okX4 (f := 1) (by decide) q199 rfl dX0_personIs_62 e_v9 ?_
      cases h
      exact G_iret F rfl (Nat.le_refl _) (Nat.le_refl _) rfl dX0_personIs_65
    have h := itf c8 h
    by_cases c10 : a2 = (2 : Int32)
    · have h := itt c10 h
      refine G_tabIn F (tgt := 66) dX0_personIs_21 (by rw [c10]; decide) (by rw [c10]; decide) (by rw [c10]; rfl) (by decide) ?_
      refine G_aload_n F dX0_personIs_66 rfl ?_
      obtain ⟨v11, e_v11, h⟩ := bnd h
      refine G_getIN F okX4 (f := 2) (by decide) q202 rfl dX0_personIs_67 e_v11 ?_
      cases h
      exact G_iret F rfl (Nat.le_refl _) (Nat.le_refl _) rfl dX0_personIs_70
    have h := itf c10 h
    by_cases c12 : a2 = (3 : Int32)
    · have h := itt c12 h
      refine G_tabIn F (tgt := 71) dX0_personIs_21 (by rw [c12]; decide) (by rw [c12]; decide) (by rw [c12]; rfl) (by decide) ?_
      refine G_aload_n F dX0_personIs_71 rfl ?_
      obtain ⟨v13, e_v13, h⟩ := bnd h
      refine G_getIN F okX4 (f := 3) (by decide) q205 rfl dX0_personIs_72 e_v13 ?_
      cases h
      exact G_iret F rfl (Nat.le_refl _) (Nat.le_refl _) rfl dX0_personIs_75
    have h := itf c12 h
    by_cases c14 : a2 = (4 : Int32)
    · have h := itt c14 h
      refine G_tabIn F (tgt := 76) dX0_personIs_21 (by rw [c14]; decide) (by rw [c14]; decide) (by rw [c14]; rfl) (by decide) ?_
      refine G_aload_n F dX0_personIs_76 rfl ?_
      obtain ⟨v15, e_v15, h⟩ := bnd h
      refine G_getIN F okX4 (f := 4) (by decide) q208 rfl dX0_personIs_77 e_v15 ?_
      cases h
      exact G_iret F rfl (Nat.le_refl _) (Nat.le_refl _) rfl dX0_personIs_80
    have h := itf c14 h
    refine G_tabDef F (tgt := 81) dX0_personIs_21 [(0 : Int32), (1 : Int32), (2 : Int32), (3 : Int32), (4 : Int32)] (by decide) (by decide) (List.forall_mem_cons.mpr ⟨c6, List.forall_mem_cons.mpr ⟨c8, List.forall_mem_cons.mpr ⟨c10, List.forall_mem_cons.mpr ⟨c12, List.forall_mem_cons.mpr ⟨c14, fa_nil⟩⟩⟩⟩⟩) (by decide) ?_
    refine G_iconst F (v := (-1 : Int32)) dX0_personIs_81 (by decide) ?_
    cases h
    exact G_iret F rfl (Nat.le_refl _) (Nat.le_refl _) rfl dX0_personIs_82
  · have h := itt c2 h
    refine G_iconst F (v := (-1 : Int32)) dX0_personIs_8 (by decide) ?_
    cases h
    exact G_iret F rfl (Nat.le_refl _) (Nat.le_refl _) rfl dX0_personIs_9

theorem metX6_first (X : Gx) {m : Hp} {nx : Nat} {a0 : Option Nat} {rv : Int32} (h : fX6_first m a0 = some rv) : Con X (1) yX6_first cX6_first 1 ((Option.some FieldType.int)) [.inr a0] m nx (some (.inl rv)) m 0 0 := by
  refine Con.of (own := RX6) (nm := "first") (L := [some (.inr a0)]) (by decide +kernel) rfl rfl (Nat.le_of_ble_eq_true rfl) (ent_of 0 rfl) ?_
  intro cx F
  refine G_aload_n F dX6_first_0 rfl ?_
  obtain ⟨v1, e_v1, h⟩ := bnd h
  refine G_getR F okX6 (f := 0) (by decide) q295 rfl dX6_first_1 e_v1 ?_
  refine G_iconst F (v := (0 : Int32)) dX6_first_4 (by decide) ?_
  obtain ⟨v2, e_v2, h⟩ := bnd h
  refine G_iald F dX6_first_5 e_v2 ?_
  cases h
  exact G_iret F rfl (Nat.le_refl _) (Nat.le_refl _) rfl dX6_first_6

theorem metX6_last (X : Gx) {m : Hp} {nx : Nat} {a0 : Option Nat} {rv : Int32} (h : fX6_last m a0 = some rv) : Con X (1) yX6_last cX6_last 1 ((Option.some FieldType.int)) [.inr a0] m nx (some (.inl rv)) m 0 0 := by
  refine Con.of (own := RX6) (nm := "last") (L := [some (.inr a0)]) (by decide +kernel) rfl rfl (Nat.le_of_ble_eq_true rfl) (ent_of 0 rfl) ?_
  intro cx F
  refine G_aload_n F dX6_last_0 rfl ?_
  obtain ⟨v1, e_v1, h⟩ := bnd h
  refine G_getR F okX6 (f := 0) (by decide) q295 rfl dX6_last_1 e_v1 ?_
  refine G_aload_n F dX6_last_4 rfl ?_
  obtain ⟨v2, e_v2, h⟩ := bnd h
  refine G_getI F okX6 (f := 2) (by decide) q303 rfl dX6_last_5 e_v2 ?_
  refine G_iconst F (v := (1 : Int32)) dX6_last_8 (by decide) ?_
  refine G_isub F dX6_last_9 ?_
  obtain ⟨v3, e_v3, h⟩ := bnd h
  refine G_iald F dX6_last_10 e_v3 ?_
  cases h
  exact G_iret F rfl (Nat.le_refl _) (Nat.le_refl _) rfl dX6_last_11

theorem metX0_trainIs (X : Gx) {m : Hp} {nx : Nat} {a0 : Option Nat} {a1 : Int32} {a2 : Int32} {rv : Int32} (h : fX0_trainIs m a0 a1 a2 = some rv) : Con X (3) yX0_trainIs cX0_trainIs 4 ((Option.some FieldType.int)) [.inr a0, .inl a1, .inl a2] m nx (some (.inl rv)) m 0 0 := by
  refine Con.of (own := RX0) (nm := "trainIs") (L := [some (.inr a0), some (.inl a1), some (.inl a2), none]) (by decide +kernel) rfl rfl (Nat.le_of_ble_eq_true rfl) (ent_of 1 rfl) ?_
  intro cx F
  refine G_aload_n F dX0_trainIs_0 rfl ?_
  refine G_iload_n F dX0_trainIs_1 rfl ?_
  obtain ⟨v1, e_v1, h⟩ := bnd h
  obtain ⟨hc_v1, e_v1⟩ := hp_on_of e_v1
  refine G_callVv F (As := [.inl a1]) (st := []) (metX0_isTrain X e_v1) hc_v1 rfl rfl (lw_V q1036 q850 qs18 q102 q851) hdfX0_isTrain ⟨by omega, by decide⟩ rfl (Nat.le_of_ble_eq_true rfl) ⟨by omega, by omega⟩ dX0_trainIs_2 ?_
  refine G_if_ne F (tgt := 10) dX0_trainIs_5 (by decide) (fun c2 => ?_) (fun c2 => ?_)
  · have h := itf c2 h
    refine G_aload_n F dX0_trainIs_10 rfl ?_
    obtain ⟨v3, e_v3, h⟩ := bnd h
    refine G_getR F okX0 (f := 0) (by decide) q328 rfl dX0_trainIs_11 e_v3 ?_
    refine G_iload_n F dX0_trainIs_14 rfl ?_
    obtain ⟨v4, e_v4, h⟩ := bnd h
    refine G_aald F (t := 5) (by decide) dX0_trainIs_15 e_v4 ?_
    refine G_astore_n F (L2 := [some (.inr a0), some (.inl a1), some (.inl a2), some (.inr v4)]) dX0_trainIs_16 (by decide) rfl ?_
    refine G_iload_n F dX0_trainIs_17 rfl ?_
    by_cases c5 : a2 = (0 : Int32)
    · have h := itt c5 h
      refine G_tabIn F (tgt := 60) dX0_trainIs_18 (by rw [c5]; decide) (by rw [c5]; decide) (by rw [c5]; rfl) (by decide) ?_
      refine G_aload_n F dX0_trainIs_60 rfl ?_
      obtain ⟨v6, e_v6, h⟩ := bnd h
      refine G_getIN F okX6 (f := 2) (by decide) q305 rfl dX0_trainIs_61 e_v6 ?_
      cases h
      exact G_iret F rfl (Nat.le_refl _) (Nat.le_refl _) rfl dX0_trainIs_64
    have h := itf c5 h
    by_cases c7 : a2 = (1 : Int32)
    · have h := itt c7 h
      refine G_tabIn F (tgt := 65) dX0_trainIs_18 (by rw [c7]; decide) (by rw [c7]; decide) (by rw [c7]; rfl) (by decide) ?_
      refine G_aload_n F dX0_trainIs_65 rfl ?_
      obtain ⟨v8, e_v8, h⟩ := bnd h
      refine G_getIN F okX6 (f := 4) (by decide) q313 rfl dX0_trainIs_66 e_v8 ?_
      refine G_if_eq F (tgt := 76) dX0_trainIs_69 (by decide) (fun c9 => ?_) (fun c9 => ?_)
      · have h := itt c9 h
        refine G_iconst F (v := (0 : Int32)) dX0_trainIs_76 (by decide) ?_
        cases h
        exact G_iret F rfl (Nat.le_refl _) (Nat.le_refl _) rfl dX0_trainIs_77
      · have h := itf c9 h
        refine G_iconst F (v := (1 : Int32)) dX0_trainIs_72 (by decide) ?_
        refine G_goto F (tgt := 77) dX0_trainIs_73 (by decide) ?_
        cases h
        exact G_iret F rfl (Nat.le_refl _) (Nat.le_refl _) rfl dX0_trainIs_77
    have h := itf c7 h
    by_cases c10 : a2 = (2 : Int32)
    · have h := itt c10 h
      refine G_tabIn F (tgt := 78) dX0_trainIs_18 (by rw [c10]; decide) (by rw [c10]; decide) (by rw [c10]; rfl) (by decide) ?_
      refine G_aload_n F dX0_trainIs_78 rfl ?_
      obtain ⟨v11, e_v11, h⟩ := bnd h
      refine G_getIN F okX6 (f := 3) (by decide) q309 rfl dX0_trainIs_79 e_v11 ?_
      cases h
      exact G_iret F rfl (Nat.le_refl _) (Nat.le_refl _) rfl dX0_trainIs_82
    have h := itf c10 h
    by_cases c12 : a2 = (3 : Int32)
    · have h := itt c12 h
      refine G_tabIn F (tgt := 83) dX0_trainIs_18 (by rw [c12]; decide) (by rw [c12]; decide) (by rw [c12]; rfl) (by decide) ?_
      refine G_aload_n F dX0_trainIs_83 rfl ?_
      obtain ⟨v13, e_v13, h⟩ := bnd h
      obtain ⟨hc_v13, e_v13⟩ := hp_on_of e_v13
      refine G_callVv F (As := []) (st := []) (metX6_first X e_v13) hc_v13 rfl rfl (lw_V q1037 q1038 q1039 q108 q1040) hdfX6_first ⟨by omega, by decide⟩ rfl (Nat.le_of_ble_eq_true rfl) ⟨by omega, by omega⟩ dX0_trainIs_84 ?_
      cases h
      exact G_iret F rfl (Nat.le_refl _) (Nat.le_refl _) rfl dX0_trainIs_87
    have h := itf c12 h
    by_cases c14 : a2 = (4 : Int32)
    · have h := itt c14 h
      refine G_tabIn F (tgt := 88) dX0_trainIs_18 (by rw [c14]; decide) (by rw [c14]; decide) (by rw [c14]; rfl) (by decide) ?_
      refine G_aload_n F dX0_trainIs_88 rfl ?_
      obtain ⟨v15, e_v15, h⟩ := bnd h
      obtain ⟨hc_v15, e_v15⟩ := hp_on_of e_v15
      refine G_callVv F (As := []) (st := []) (metX6_last X e_v15) hc_v15 rfl rfl (lw_V q1041 q1042 q1043 q108 q1044) hdfX6_last ⟨by omega, by decide⟩ rfl (Nat.le_of_ble_eq_true rfl) ⟨by omega, by omega⟩ dX0_trainIs_89 ?_
      cases h
      exact G_iret F rfl (Nat.le_refl _) (Nat.le_refl _) rfl dX0_trainIs_92
    have h := itf c14 h
    by_cases c16 : a2 = (5 : Int32)
    · have h := itt c16 h
      refine G_tabIn F (tgt := 93) dX0_trainIs_18 (by rw [c16]; decide) (by rw [c16]; decide) (by rw [c16]; rfl) (by decide) ?_
      refine G_aload_n F dX0_trainIs_93 rfl ?_
      obtain ⟨v17, e_v17, h⟩ := bnd h
      refine G_getRN F okX6 (f := 1) (by decide) q301 rfl dX0_trainIs_94 e_v17 ?_
      refine G_iconst F (v := (0 : Int32)) dX0_trainIs_97 (by decide) ?_
      obtain ⟨v18, e_v18, h⟩ := bnd h
      refine G_iald F dX0_trainIs_98 e_v18 ?_
      cases h
      exact G_iret F rfl (Nat.le_refl _) (Nat.le_refl _) rfl dX0_trainIs_99
    have h := itf c16 h
    by_cases c19 : a2 = (6 : Int32)
    · have h := itt c19 h
      refine G_tabIn F (tgt := 100) dX0_trainIs_18 (by rw [c19]; decide) (by rw [c19]; decide) (by rw [c19]; rfl) (by decide) ?_
      refine G_aload_n F dX0_trainIs_100 rfl ?_
      obtain ⟨v20, e_v20, h⟩ := bnd h
      obtain ⟨hc_v20, e_v20⟩ := hp_on_of e_v20
      refine G_callVv F (As := []) (st := []) (metX6_ends X e_v20) hc_v20 rfl rfl (lw_V q1045 q827 q828 q108 q829) hdfX6_ends ⟨by omega, by decide⟩ rfl (Nat.le_of_ble_eq_true rfl) ⟨by omega, by omega⟩ dX0_trainIs_101 ?_
      cases h
      exact G_iret F rfl (Nat.le_refl _) (Nat.le_refl _) rfl dX0_trainIs_104
    have h := itf c19 h
    refine G_tabDef F (tgt := 105) dX0_trainIs_18 [(0 : Int32), (1 : Int32), (2 : Int32), (3 : Int32), (4 : Int32), (5 : Int32), (6 : Int32)] (by decide) (by decide) (List.forall_mem_cons.mpr ⟨c5, List.forall_mem_cons.mpr ⟨c7, List.forall_mem_cons.mpr ⟨c10, List.forall_mem_cons.mpr ⟨c12, List.forall_mem_cons.mpr ⟨c14, List.forall_mem_cons.mpr ⟨c16, List.forall_mem_cons.mpr ⟨c19, fa_nil⟩⟩⟩⟩⟩⟩⟩) (by decide) ?_
    refine G_iconst F (v := (-1 : Int32)) dX0_trainIs_105 (by decide) ?_
    cases h
    exact G_iret F rfl (Nat.le_refl _) (Nat.le_refl _) rfl dX0_trainIs_106
  · have h := itt c2 h
    refine G_iconst F (v := (-1 : Int32)) dX0_trainIs_8 (by decide) ?_
    cases h
    exact G_iret F rfl (Nat.le_refl _) (Nat.le_refl _) rfl dX0_trainIs_9

theorem metX0_stopIs (X : Gx) {m : Hp} {nx : Nat} {a0 : Option Nat} {a1 : Int32} {a2 : Int32} {a3 : Int32} {rv : Int32} (h : fX0_stopIs m a0 a1 a2 a3 = some rv) : Con X (3) yX0_stopIs cX0_stopIs 4 ((Option.some FieldType.int)) [.inr a0, .inl a1, .inl a2, .inl a3] m nx (some (.inl rv)) m 0 0 := by
  refine Con.of (own := RX0) (nm := "stopIs") (L := [some (.inr a0), some (.inl a1), some (.inl a2), some (.inl a3)]) (by decide +kernel) rfl rfl (Nat.le_of_ble_eq_true rfl) (ent_of 0 rfl) ?_
  intro cx F
  refine G_aload_n F dX0_stopIs_0 rfl ?_
  refine G_iload_n F dX0_stopIs_1 rfl ?_
  obtain ⟨v1, e_v1, h⟩ := bnd h
  obtain ⟨hc_v1, e_v1⟩ := hp_on_of e_v1
  refine G_callVv F (As := [.inl a1]) (st := []) (metX0_isTrain X e_v1) hc_v1 rfl rfl (lw_V q1036 q850 qs18 q102 q851) hdfX0_isTrain ⟨by omega, by decide⟩ rfl (Nat.le_of_ble_eq_true rfl) ⟨by omega, by omega⟩ dX0_stopIs_2 ?_
  refine G_if_eq F (tgt := 32) dX0_stopIs_5 (by decide) (fun c2 => ?_) (fun c2 => ?_)
  · have h := itt c2 h
    refine G_iconst F (v := (-1 : Int32)) dX0_stopIs_32 (by decide) ?_
    refine G_goto F (tgt := 65) dX0_stopIs_33 (by decide) ?_
    cases h
    exact G_iret F rfl (Nat.le_refl _) (Nat.le_refl _) rfl dX0_stopIs_65
  · have h := itf c2 h
    refine G_iload_n F dX0_stopIs_8 rfl ?_
    refine G_aload_n F dX0_stopIs_9 rfl ?_
    obtain ⟨v3, e_v3, h⟩ := bnd h
    refine G_getR F okX0 (f := 0) (by decide) q328 rfl dX0_stopIs_10 e_v3 ?_
    refine G_iload_n F dX0_stopIs_13 rfl ?_
    obtain ⟨v4, e_v4, h⟩ := bnd h
    refine G_aald F (t := 5) (by decide) dX0_stopIs_14 e_v4 ?_
    obtain ⟨v5, e_v5, h⟩ := bnd h
    refine G_getIN F okX6 (f := 2) (by decide) q305 rfl dX0_stopIs_15 e_v5 ?_
    obtain ⟨v6, e_v6, h⟩ := bnd h
    refine G_callSv F (As := [.inl a2, .inl v5]) (st := []) (metX0_in X e_v6) (lw_S q409 q410 q102 q411) hdfX0_in ⟨by omega, by decide⟩ rfl (Nat.le_of_ble_eq_true rfl) ⟨by omega, by omega⟩ dX0_stopIs_18 ?_
    refine G_if_eq F (tgt := 32) dX0_stopIs_21 (by decide) (fun c7 => ?_) (fun c7 => ?_)
    · have h := itt c7 h
      refine G_iconst F (v := (-1 : Int32)) dX0_stopIs_32 (by decide) ?_
      refine G_goto F (tgt := 65) dX0_stopIs_33 (by decide) ?_
      cases h
      exact G_iret F rfl (Nat.le_refl _) (Nat.le_refl _) rfl dX0_stopIs_65
    · have h := itf c7 h
      refine G_iload_n F dX0_stopIs_24 rfl ?_
      refine G_iconst F (v := (2 : Int32)) dX0_stopIs_25 (by decide) ?_
      obtain ⟨v8, e_v8, h⟩ := bnd h
      refine G_callSv F (As := [.inl a3, .inl (2 : Int32)]) (st := []) (metX0_in X e_v8) (lw_S q409 q410 q102 q411) hdfX0_in ⟨by omega, by decide⟩ rfl (Nat.le_of_ble_eq_true rfl) ⟨by omega, by omega⟩ dX0_stopIs_26 ?_
      refine G_if_ne F (tgt := 36) dX0_stopIs_29 (by decide) (fun c9 => ?_) (fun c9 => ?_)
      · have h := itf c9 h
        refine G_iload_n F dX0_stopIs_36 rfl ?_
        refine G_if_ne F (tgt := 54) dX0_stopIs_37 (by decide) (fun c10 => ?_) (fun c10 => ?_)
        · have h := itf c10 h
          refine G_aload_n F dX0_stopIs_54 rfl ?_
          obtain ⟨v11, e_v11, h⟩ := bnd h
          refine G_getR F okX0 (f := 0) (by decide) q328 rfl dX0_stopIs_55 e_v11 ?_
          refine G_iload_n F dX0_stopIs_58 rfl ?_
          obtain ⟨v12, e_v12, h⟩ := bnd h
          refine G_aald F (t := 5) (by decide) dX0_stopIs_59 e_v12 ?_
          obtain ⟨v13, e_v13, h⟩ := bnd h
          refine G_getRN F okX6 (f := 1) (by decide) q301 rfl dX0_stopIs_60 e_v13 ?_
          refine G_iload_n F dX0_stopIs_63 rfl ?_
          obtain ⟨v14, e_v14, h⟩ := bnd h
          refine G_iald F dX0_stopIs_64 e_v14 ?_
          cases h
          exact G_iret F rfl (Nat.le_refl _) (Nat.le_refl _) rfl dX0_stopIs_65
        · have h := itt c10 h
          refine G_aload_n F dX0_stopIs_40 rfl ?_
          obtain ⟨v15, e_v15, h⟩ := bnd h
          refine G_getR F okX0 (f := 0) (by decide) q328 rfl dX0_stopIs_41 e_v15 ?_
          refine G_iload_n F dX0_stopIs_44 rfl ?_
          obtain ⟨v16, e_v16, h⟩ := bnd h
          refine G_aald F (t := 5) (by decide) dX0_stopIs_45 e_v16 ?_
          obtain ⟨v17, e_v17, h⟩ := bnd h
          refine G_getRN F okX6 (f := 0) (by decide) q298 rfl dX0_stopIs_46 e_v17 ?_
          refine G_iload_n F dX0_stopIs_49 rfl ?_
          obtain ⟨v18, e_v18, h⟩ := bnd h
          refine G_iald F dX0_stopIs_50 e_v18 ?_
          refine G_goto F (tgt := 65) dX0_stopIs_51 (by decide) ?_
          cases h
          exact G_iret F rfl (Nat.le_refl _) (Nat.le_refl _) rfl dX0_stopIs_65
      · have h := itt c9 h
        refine G_iconst F (v := (-1 : Int32)) dX0_stopIs_32 (by decide) ?_
        refine G_goto F (tgt := 65) dX0_stopIs_33 (by decide) ?_
        cases h
        exact G_iret F rfl (Nat.le_refl _) (Nat.le_refl _) rfl dX0_stopIs_65

theorem metX0_ridesIn (X : Gx) {m : Hp} {nx : Nat} {a0 : Option Nat} {a1 : Option Nat} {a2 : Int32} {m_ : Hp} (h : fX0_ridesIn m a0 a1 a2 = some m_) : Con X (2) yX0_ridesIn cX0_ridesIn 6 ((none : Option FieldType)) [.inr a0, .inr a1, .inl a2] m nx none m_ 0 0 := by
  refine Con.of (own := RX0) (nm := "ridesIn") (L := [some (.inr a0), some (.inr a1), some (.inl a2), none, none, none]) (by decide +kernel) rfl rfl (Nat.le_of_ble_eq_true rfl) (ent_of 3 rfl) ?_
  intro cx F
  refine G_iconst F (v := (0 : Int32)) dX0_ridesIn_0 (by decide) ?_
  refine G_istore_n F (L2 := [some (.inr a0), some (.inr a1), some (.inl a2), some (.inl (0 : Int32)), none, none]) dX0_ridesIn_1 (by decide) rfl ?_
  refine G_iconst F (v := (0 : Int32)) dX0_ridesIn_2 (by decide) ?_
  refine G_istore F (L2 := [some (.inr a0), some (.inr a1), some (.inl a2), some (.inl (0 : Int32)), some (.inl (0 : Int32)), none]) dX0_ridesIn_3 (by decide) rfl ?_
  obtain ⟨r1, hr1, h⟩ := bnd h
  have KE1 : ∀ (m23 : Hp), m23 = r1 → G X cx 6 (Qm X cx none m_ nx 0 0) (0) (0) m23 (nx) [none, none, none, none, none, none] [] 93 := by
    intro m23 hq
    subst hq
    try dsimp only at h
    cases h
    exact G_vret F rfl (Nat.le_refl _) (Nat.le_refl _) rfl dX0_ridesIn_93
  have KB1 : ∀ s o1, fX0_ridesIn_L5 a0 a1 a2 s = some o1 → (∀ s', o1 = Sum.inl s' → (fun (s : (Int32 × Int32 × Hp)) => match s with | (s3_1, s4_1, m1) => G X cx 6 (Qm X cx none m_ nx 0 0) (0) (0) m1 (nx) [some (.inr a0), some (.inr a1), some (.inl a2), some (.inl s3_1), some (.inl s4_1), none] [] 5) s') → (∀ q, o1 = Sum.inr q → q = r1) → (fun (s : (Int32 × Int32 × Hp)) => match s with | (s3_1, s4_1, m1) => G X cx 6 (Qm X cx none m_ nx 0 0) (0) (0) m1 (nx) [some (.inr a0), some (.inr a1), some (.inl a2), some (.inl s3_1), some (.inl s4_1), none] [] 5) s := by
    intro s o1 h hP1 hE1
    obtain ⟨s3_1, s4_1, m1⟩ := s
    try dsimp only at hP1 hE1 ⊢
    refine G_iload F dX0_ridesIn_5 rfl ?_
    refine G_aload_n F dX0_ridesIn_7 rfl ?_
    obtain ⟨v2, e_v2, h⟩ := bnd h
    refine G_getIN F okX6 (f := 2) (by decide) q305 rfl dX0_ridesIn_8 e_v2 ?_
    refine G_icmp_ge F (tgt := 93) dX0_ridesIn_11 (by decide) (fun c3 => ?_) (fun c3 => ?_)
    · have h := itt c3 h
      cases h
      exact G_sub F (L2 := [none, none, none, none, none, none]) trivial (KE1 _ (hE1 _ rfl))
    · have h := itf c3 h
      refine G_aload_n F dX0_ridesIn_14 rfl ?_
      obtain ⟨v4, e_v4, h⟩ := bnd h
      refine G_getIN F okX6 (f := 4) (by decide) q313 rfl dX0_ridesIn_15 e_v4 ?_
      refine G_if_eq F (tgt := 93) dX0_ridesIn_18 (by decide) (fun c5 => ?_) (fun c5 => ?_)
      · have h := itt c5 h
        cases h
        exact G_sub F (L2 := [none, none, none, none, none, none]) trivial (KE1 _ (hE1 _ rfl))
      · have h := itf c5 h
        refine G_aload_n F dX0_ridesIn_21 rfl ?_
        obtain ⟨v6, e_v6, h⟩ := bnd h
        refine G_getRN F okX6 (f := 0) (by decide) q298 rfl dX0_ridesIn_22 e_v6 ?_
        refine G_iload F dX0_ridesIn_25 rfl ?_
        obtain ⟨v7, e_v7, h⟩ := bnd h
        refine G_iald F dX0_ridesIn_27 e_v7 ?_
        refine G_istore F (L2 := [some (.inr a0), some (.inr a1), some (.inl a2), some (.inl s3_1), some (.inl s4_1), some (.inl v7)]) dX0_ridesIn_28 (by decide) rfl ?_
        refine G_iload_n F dX0_ridesIn_30 rfl ?_
        obtain ⟨p9, hp9, h⟩ := bnd h
        have K9 : ∀ (m8 : Hp), m8 = p9 → G X cx 6 (Qm X cx none m_ nx 0 0) (0) (0) m8 (nx) [some (.inr a0), some (.inr a1), some (.inl a2), some (.inl s3_1), some (.inl s4_1), some (.inl v7)] [] 58 := by
          intro m8 hq
          subst hq
          try dsimp only at h
          refine G_iload_n F dX0_ridesIn_58 rfl ?_
          refine G_if_ne F (tgt := 81) dX0_ridesIn_59 (by decide) (fun c10 => ?_) (fun c10 => ?_)
          · have h := itf c10 h
            refine G_iconst F (v := (1 : Int32)) dX0_ridesIn_81 (by decide) ?_
            refine G_goto F (tgt := 86) dX0_ridesIn_82 (by decide) ?_
            refine G_istore_n F (L2 := [some (.inr a0), some (.inr a1), some (.inl a2), some (.inl (1 : Int32)), some (.inl s4_1), some (.inl v7)]) dX0_ridesIn_86 (by decide) rfl ?_
            refine G_iinc F (v := (s4_1 + (1 : Int32))) (L2 := [some (.inr a0), some (.inr a1), some (.inl a2), some (.inl (1 : Int32)), some (.inl (s4_1 + (1 : Int32))), some (.inl v7)]) dX0_ridesIn_87 (by decide) rfl rfl rfl ?_
            refine G_goto F (tgt := 5) dX0_ridesIn_90 (by decide) ?_
            cases h
            exact G_sub F (L2 := [some (.inr a0), some (.inr a1), some (.inl a2), some (.inl (1 : Int32)), some (.inl (s4_1 + (1 : Int32))), none]) ⟨rfl, ⟨rfl, ⟨rfl, ⟨rfl, ⟨rfl, trivial⟩⟩⟩⟩⟩ (hP1 _ rfl)
          · have h := itt c10 h
            refine G_aload_n F dX0_ridesIn_62 rfl ?_
            obtain ⟨v11, e_v11, h⟩ := bnd h
            refine G_getR F okX0 (f := 15) (by decide) q353 rfl dX0_ridesIn_63 e_v11 ?_
            refine G_iload F dX0_ridesIn_66 rfl ?_
            obtain ⟨v12, e_v12, h⟩ := bnd h
            refine G_iald F dX0_ridesIn_68 e_v12 ?_
            refine G_iload_n F dX0_ridesIn_69 rfl ?_
            refine G_iadd F dX0_ridesIn_70 ?_
            refine G_aload_n F dX0_ridesIn_71 rfl ?_
            obtain ⟨v13, e_v13, h⟩ := bnd h
            refine G_getRN F okX6 (f := 1) (by decide) q301 rfl dX0_ridesIn_72 e_v13 ?_
            refine G_iload F dX0_ridesIn_75 rfl ?_
            obtain ⟨v14, e_v14, h⟩ := bnd h
            refine G_iald F dX0_ridesIn_77 e_v14 ?_
            refine G_icmp_gt F (tgt := 85) dX0_ridesIn_78 (by decide) (fun c15 => ?_) (fun c15 => ?_)
            · have h := itt c15 h
              refine G_iconst F (v := (0 : Int32)) dX0_ridesIn_85 (by decide) ?_
              refine G_istore_n F (L2 := [some (.inr a0), some (.inr a1), some (.inl a2), some (.inl (0 : Int32)), some (.inl s4_1), some (.inl v7)]) dX0_ridesIn_86 (by decide) rfl ?_
              refine G_iinc F (v := (s4_1 + (1 : Int32))) (L2 := [some (.inr a0), some (.inr a1), some (.inl a2), some (.inl (0 : Int32)), some (.inl (s4_1 + (1 : Int32))), some (.inl v7)]) dX0_ridesIn_87 (by decide) rfl rfl rfl ?_
              refine G_goto F (tgt := 5) dX0_ridesIn_90 (by decide) ?_
              cases h
              exact G_sub F (L2 := [some (.inr a0), some (.inr a1), some (.inl a2), some (.inl (0 : Int32)), some (.inl (s4_1 + (1 : Int32))), none]) ⟨rfl, ⟨rfl, ⟨rfl, ⟨rfl, ⟨rfl, trivial⟩⟩⟩⟩⟩ (hP1 _ rfl)
            · have h := itf c15 h
              refine G_iconst F (v := (1 : Int32)) dX0_ridesIn_81 (by decide) ?_
              refine G_goto F (tgt := 86) dX0_ridesIn_82 (by decide) ?_
              refine G_istore_n F (L2 := [some (.inr a0), some (.inr a1), some (.inl a2), some (.inl (1 : Int32)), some (.inl s4_1), some (.inl v7)]) dX0_ridesIn_86 (by decide) rfl ?_
              refine G_iinc F (v := (s4_1 + (1 : Int32))) (L2 := [some (.inr a0), some (.inr a1), some (.inl a2), some (.inl (1 : Int32)), some (.inl (s4_1 + (1 : Int32))), some (.inl v7)]) dX0_ridesIn_87 (by decide) rfl rfl rfl ?_
              refine G_goto F (tgt := 5) dX0_ridesIn_90 (by decide) ?_
              cases h
              exact G_sub F (L2 := [some (.inr a0), some (.inr a1), some (.inl a2), some (.inl (1 : Int32)), some (.inl (s4_1 + (1 : Int32))), none]) ⟨rfl, ⟨rfl, ⟨rfl, ⟨rfl, ⟨rfl, trivial⟩⟩⟩⟩⟩ (hP1 _ rfl)
        have h := hp9
        clear hp9
        refine G_if_eq F (tgt := 58) dX0_ridesIn_31 (by decide) (fun c16 => ?_) (fun c16 => ?_)
        · have h := itt c16 h
          have hq_ := Option.some.inj h
          exact G_sub F (L2 := [some (.inr a0), some (.inr a1), some (.inl a2), some (.inl s3_1), some (.inl s4_1), some (.inl v7)]) ⟨rfl, ⟨rfl, ⟨rfl, ⟨rfl, ⟨rfl, ⟨rfl, trivial⟩⟩⟩⟩⟩⟩ (K9 _ hq_)
        · have h := itf c16 h
          refine G_aload_n F dX0_ridesIn_34 rfl ?_
          obtain ⟨v17, e_v17, h⟩ := bnd h
          refine G_getR F okX0 (f := 14) (by decide) q352 rfl dX0_ridesIn_35 e_v17 ?_
          refine G_iload F dX0_ridesIn_38 rfl ?_
          refine G_aload_n F dX0_ridesIn_40 rfl ?_
          obtain ⟨v18, e_v18, h⟩ := bnd h
          refine G_getR F okX0 (f := 14) (by decide) q352 rfl dX0_ridesIn_41 e_v18 ?_
          refine G_iload F dX0_ridesIn_44 rfl ?_
          obtain ⟨v19, e_v19, h⟩ := bnd h
          refine G_iald F dX0_ridesIn_46 e_v19 ?_
          refine G_aload_n F dX0_ridesIn_47 rfl ?_
          obtain ⟨v20, e_v20, h⟩ := bnd h
          refine G_getRN F okX6 (f := 1) (by decide) q301 rfl dX0_ridesIn_48 e_v20 ?_
          refine G_iload F dX0_ridesIn_51 rfl ?_
          obtain ⟨v21, e_v21, h⟩ := bnd h
          refine G_iald F dX0_ridesIn_53 e_v21 ?_
          refine G_mmin F q990 q517 q113 q518 (by omega) (Nat.le_of_ble_eq_true rfl) ⟨by omega, by omega⟩ dX0_ridesIn_54 ?_
          obtain ⟨m22, e_m22, h⟩ := bnd h
          refine G_iast F dX0_ridesIn_57 e_m22 ?_
          have hq_ := Option.some.inj h
          exact G_sub F (L2 := [some (.inr a0), some (.inr a1), some (.inl a2), some (.inl s3_1), some (.inl s4_1), some (.inl v7)]) ⟨rfl, ⟨rfl, ⟨rfl, ⟨rfl, ⟨rfl, ⟨rfl, trivial⟩⟩⟩⟩⟩⟩ (K9 _ hq_)
  have hI := iter_ok (fun (s : (Int32 × Int32 × Hp)) => match s with | (s3_1, s4_1, m1) => G X cx 6 (Qm X cx none m_ nx 0 0) (0) (0) m1 (nx) [some (.inr a0), some (.inr a1), some (.inl a2), some (.inl s3_1), some (.inl s4_1), none] [] 5) (fun q => q = r1) KB1 _ _ _ hr1 rfl
  exact G_sub F (L2 := [some (.inr a0), some (.inr a1), some (.inl a2), some (.inl (0 : Int32)), some (.inl (0 : Int32)), none]) ⟨rfl, ⟨rfl, ⟨rfl, ⟨rfl, ⟨rfl, trivial⟩⟩⟩⟩⟩ hI

theorem metX0_laysThere (X : Gx) {m : Hp} {nx : Nat} {a0 : Option Nat} {a1 : Int32} {a2 : Int32} {a3 : Int32} {rv : Int32} {m_ : Hp} (h : fX0_laysThere m a0 a1 a2 a3 = some (rv, m_)) : Con X (3) yX0_laysThere cX0_laysThere 7 ((Option.some FieldType.int)) [.inr a0, .inl a1, .inl a2, .inl a3] m nx (some (.inl rv)) m_ 0 0 := by
  refine Con.of (own := RX0) (nm := "laysThere") (L := [some (.inr a0), some (.inl a1), some (.inl a2), some (.inl a3), none, none, none]) (by decide +kernel) rfl rfl (Nat.le_of_ble_eq_true rfl) (ent_of 3 rfl) ?_
  intro cx F
  refine G_iconst F (v := (0 : Int32)) dX0_laysThere_0 (by decide) ?_
  refine G_istore F (L2 := [some (.inr a0), some (.inl a1), some (.inl a2), some (.inl a3), some (.inl (0 : Int32)), none, none]) dX0_laysThere_1 (by decide) rfl ?_
  obtain ⟨r1, hr1, h⟩ := bnd h
  have KE1 : ∀ (m7 : Hp), m7 = r1 → G X cx 7 (Qm X cx (some (.inl rv)) m_ nx 0 0) (0) (0) m7 (nx) [some (.inr a0), none, none, some (.inl a3), none, none, none] [] 35 := by
    intro m7 hq
    subst hq
    try dsimp only at h
    refine G_iconst F (v := (0 : Int32)) dX0_laysThere_35 (by decide) ?_
    refine G_istore F (L2 := [some (.inr a0), none, none, some (.inl a3), some (.inl (0 : Int32)), none, none]) dX0_laysThere_36 (by decide) rfl ?_
    refine G_iconst F (v := (1 : Int32)) dX0_laysThere_38 (by decide) ?_
    refine G_istore F (L2 := [some (.inr a0), none, none, some (.inl a3), some (.inl (0 : Int32)), some (.inl (1 : Int32)), none]) dX0_laysThere_39 (by decide) rfl ?_
    obtain ⟨r8, hr8, h⟩ := bnd h
    have KE8 : ∀ (v32 : Int32) (m33 : Hp), (v32, m33) = r8 → G X cx 7 (Qm X cx (some (.inl rv)) m_ nx 0 0) (0) (0) m33 (nx) [none, none, none, none, some (.inl v32), none, none] [] 151 := by
      intro v32 m33 hq
      subst hq
      try dsimp only at h
      refine G_iload F dX0_laysThere_151 rfl ?_
      cases h
      exact G_iret F rfl (Nat.le_refl _) (Nat.le_refl _) rfl dX0_laysThere_153
    have KB8 : ∀ s o8, fX0_laysThere_L41 a0 a3 s = some o8 → (∀ s', o8 = Sum.inl s' → (fun (s : (Int32 × Int32 × Hp)) => match s with | (s4_8, s5_8, m8) => G X cx 7 (Qm X cx (some (.inl rv)) m_ nx 0 0) (0) (0) m8 (nx) [some (.inr a0), none, none, some (.inl a3), some (.inl s4_8), some (.inl s5_8), none] [] 41) s') → (∀ q, o8 = Sum.inr q → q = r8) → (fun (s : (Int32 × Int32 × Hp)) => match s with | (s4_8, s5_8, m8) => G X cx 7 (Qm X cx (some (.inl rv)) m_ nx 0 0) (0) (0) m8 (nx) [some (.inr a0), none, none, some (.inl a3), some (.inl s4_8), some (.inl s5_8), none] [] 41) s := by
      intro s o8 h hP8 hE8
      obtain ⟨s4_8, s5_8, m8⟩ := s
      try dsimp only at hP8 hE8 ⊢
      refine G_iload F dX0_laysThere_41 rfl ?_
      refine G_bipush F (v := (10 : Int32)) dX0_laysThere_43 (by decide) ?_
      refine G_icmp_gt F (tgt := 151) dX0_laysThere_45 (by decide) (fun c9 => ?_) (fun c9 => ?_)
      · have h := itt c9 h
        cases h
        exact G_sub F (L2 := [none, none, none, none, some (.inl s4_8), none, none]) ⟨rfl, trivial⟩ (KE8 _ _ (hE8 _ rfl))
      · have h := itf c9 h
        refine G_iconst F (v := (0 : Int32)) dX0_laysThere_48 (by decide) ?_
        refine G_istore F (L2 := [some (.inr a0), none, none, some (.inl a3), some (.inl s4_8), some (.inl s5_8), some (.inl (0 : Int32))]) dX0_laysThere_49 (by decide) rfl ?_
        obtain ⟨r10, hr10, h⟩ := bnd h
        have KE10 : ∀ (m16 : Hp), m16 = r10 → G X cx 7 (Qm X cx (some (.inl rv)) m_ nx 0 0) (0) (0) m16 (nx) [some (.inr a0), none, none, some (.inl a3), some (.inl s4_8), some (.inl s5_8), none] [] 78 := by
          intro m16 hq
          subst hq
          try dsimp only at h
          refine G_iconst F (v := (0 : Int32)) dX0_laysThere_78 (by decide) ?_
          refine G_istore F (L2 := [some (.inr a0), none, none, some (.inl a3), some (.inl s4_8), some (.inl s5_8), some (.inl (0 : Int32))]) dX0_laysThere_79 (by decide) rfl ?_
          obtain ⟨r17, hr17, h⟩ := bnd h
          have KE17 : ∀ (m26 : Hp), m26 = r17 → G X cx 7 (Qm X cx (some (.inl rv)) m_ nx 0 0) (0) (0) m26 (nx) [some (.inr a0), none, none, some (.inl a3), some (.inl s4_8), some (.inl s5_8), none] [] 121 := by
            intro m26 hq
            subst hq
            try dsimp only at h
            refine G_aload_n F dX0_laysThere_121 rfl ?_
            obtain ⟨v27, e_v27, h⟩ := bnd h
            refine G_getR F okX0 (f := 14) (by decide) q352 rfl dX0_laysThere_122 e_v27 ?_
            refine G_iload_n F dX0_laysThere_125 rfl ?_
            obtain ⟨v28, e_v28, h⟩ := bnd h
            refine G_iald F dX0_laysThere_126 e_v28 ?_
            refine G_aload_n F dX0_laysThere_127 rfl ?_
            obtain ⟨v29, e_v29, h⟩ := bnd h
            refine G_getR F okX0 (f := 15) (by decide) q353 rfl dX0_laysThere_128 e_v29 ?_
            refine G_iload_n F dX0_laysThere_131 rfl ?_
            obtain ⟨v30, e_v30, h⟩ := bnd h
            refine G_iald F dX0_laysThere_132 e_v30 ?_
            refine G_icmp_ge F (tgt := 141) dX0_laysThere_133 (by decide) (fun c31 => ?_) (fun c31 => ?_)
            · have h := itt c31 h
              refine G_iload F dX0_laysThere_141 rfl ?_
              refine G_istore F (L2 := [some (.inr a0), none, none, some (.inl a3), some (.inl s4_8), some (.inl s5_8), none]) dX0_laysThere_143 (by decide) rfl ?_
              refine G_iinc F (v := (s5_8 + (1 : Int32))) (L2 := [some (.inr a0), none, none, some (.inl a3), some (.inl s4_8), some (.inl (s5_8 + (1 : Int32))), none]) dX0_laysThere_145 (by decide) rfl rfl rfl ?_
              refine G_goto F (tgt := 41) dX0_laysThere_148 (by decide) ?_
              cases h
              exact G_sub F (L2 := [some (.inr a0), none, none, some (.inl a3), some (.inl s4_8), some (.inl (s5_8 + (1 : Int32))), none]) ⟨rfl, ⟨rfl, ⟨rfl, ⟨rfl, trivial⟩⟩⟩⟩ (hP8 _ rfl)
            · have h := itf c31 h
              refine G_iload F dX0_laysThere_136 rfl ?_
              refine G_goto F (tgt := 143) dX0_laysThere_138 (by decide) ?_
              refine G_istore F (L2 := [some (.inr a0), none, none, some (.inl a3), some (.inl s5_8), some (.inl s5_8), none]) dX0_laysThere_143 (by decide) rfl ?_
              refine G_iinc F (v := (s5_8 + (1 : Int32))) (L2 := [some (.inr a0), none, none, some (.inl a3), some (.inl s5_8), some (.inl (s5_8 + (1 : Int32))), none]) dX0_laysThere_145 (by decide) rfl rfl rfl ?_
              refine G_goto F (tgt := 41) dX0_laysThere_148 (by decide) ?_
              cases h
              exact G_sub F (L2 := [some (.inr a0), none, none, some (.inl a3), some (.inl s5_8), some (.inl (s5_8 + (1 : Int32))), none]) ⟨rfl, ⟨rfl, ⟨rfl, ⟨rfl, trivial⟩⟩⟩⟩ (hP8 _ rfl)
          have KB17 : ∀ s o17, fX0_laysThere_L81 a0 a3 s4_8 s5_8 s = some o17 → (∀ s', o17 = Sum.inl s' → (fun (s : (Int32 × Hp)) => match s with | (s6_17, m17) => G X cx 7 (Qm X cx (some (.inl rv)) m_ nx 0 0) (0) (0) m17 (nx) [some (.inr a0), none, none, some (.inl a3), some (.inl s4_8), some (.inl s5_8), some (.inl s6_17)] [] 81) s') → (∀ q, o17 = Sum.inr q → q = r17) → (fun (s : (Int32 × Hp)) => match s with | (s6_17, m17) => G X cx 7 (Qm X cx (some (.inl rv)) m_ nx 0 0) (0) (0) m17 (nx) [some (.inr a0), none, none, some (.inl a3), some (.inl s4_8), some (.inl s5_8), some (.inl s6_17)] [] 81) s := by
            intro s o17 h hP17 hE17
            obtain ⟨s6_17, m17⟩ := s
            try dsimp only at hP17 hE17 ⊢
            refine G_iload F dX0_laysThere_81 rfl ?_
            refine G_aload_n F dX0_laysThere_83 rfl ?_
            obtain ⟨v18, e_v18, h⟩ := bnd h
            refine G_getI F okX0 (f := 3) (by decide) q335 rfl dX0_laysThere_84 e_v18 ?_
            refine G_icmp_ge F (tgt := 121) dX0_laysThere_87 (by decide) (fun c19 => ?_) (fun c19 => ?_)
            · have h := itt c19 h
              cases h
              exact G_sub F (L2 := [some (.inr a0), none, none, some (.inl a3), some (.inl s4_8), some (.inl s5_8), none]) ⟨rfl, ⟨rfl, ⟨rfl, ⟨rfl, trivial⟩⟩⟩⟩ (KE17 _ (hE17 _ rfl))
            · have h := itf c19 h
              refine G_aload_n F dX0_laysThere_90 rfl ?_
              refine G_aload_n F dX0_laysThere_91 rfl ?_
              obtain ⟨v20, e_v20, h⟩ := bnd h
              refine G_getR F okX0 (f := 0) (by decide) q328 rfl dX0_laysThere_92 e_v20 ?_
              refine G_iload F dX0_laysThere_95 rfl ?_
              obtain ⟨v21, e_v21, h⟩ := bnd h
              refine G_aald F (t := 5) (by decide) dX0_laysThere_97 e_v21 ?_
              refine G_iload F dX0_laysThere_98 rfl ?_
              refine G_iconst F (v := (1 : Int32)) dX0_laysThere_100 (by decide) ?_
              refine G_icmp_ne F (tgt := 108) dX0_laysThere_101 (by decide) (fun c22 => ?_) (fun c22 => ?_)
              · have h := itf c22 h
                refine G_aload_n F dX0_laysThere_108 rfl ?_
                obtain ⟨v23, e_v23, h⟩ := bnd h
                refine G_getI F okX0 (f := 5) (by decide) q339 rfl dX0_laysThere_109 e_v23 ?_
                obtain ⟨m24, e_m24, h⟩ := bnd h
                obtain ⟨hc_m24, e_m24⟩ := hp_on_of e_m24
                refine G_callV0 F (As := [.inr v21, .inl v23]) (st := []) (metX0_ridesIn X e_m24) hc_m24 rfl rfl (lw_V q1059 q1061 qs30 q102 q1062) hdfX0_ridesIn ⟨by omega, by decide⟩ rfl (Nat.le_of_ble_eq_true rfl) ⟨by omega, by omega⟩ dX0_laysThere_112 ?_
                refine G_iinc F (v := (s6_17 + (1 : Int32))) (L2 := [some (.inr a0), none, none, some (.inl a3), some (.inl s4_8), some (.inl s5_8), some (.inl (s6_17 + (1 : Int32)))]) dX0_laysThere_115 (by decide) rfl rfl rfl ?_
                refine G_goto F (tgt := 81) dX0_laysThere_118 (by decide) ?_
                cases h
                exact G_sub F (L2 := [some (.inr a0), none, none, some (.inl a3), some (.inl s4_8), some (.inl s5_8), some (.inl (s6_17 + (1 : Int32)))]) ⟨rfl, ⟨rfl, ⟨rfl, ⟨rfl, ⟨rfl, trivial⟩⟩⟩⟩⟩ (hP17 _ rfl)
              · have h := itt c22 h
                refine G_iconst F (v := (0 : Int32)) dX0_laysThere_104 (by decide) ?_
                refine G_goto F (tgt := 112) dX0_laysThere_105 (by decide) ?_
                obtain ⟨m25, e_m25, h⟩ := bnd h
                obtain ⟨hc_m25, e_m25⟩ := hp_on_of e_m25
                refine G_callV0 F (As := [.inr v21, .inl (0 : Int32)]) (st := []) (metX0_ridesIn X e_m25) hc_m25 rfl rfl (lw_V q1059 q1061 qs30 q102 q1062) hdfX0_ridesIn ⟨by omega, by decide⟩ rfl (Nat.le_of_ble_eq_true rfl) ⟨by omega, by omega⟩ dX0_laysThere_112 ?_
                refine G_iinc F (v := (s6_17 + (1 : Int32))) (L2 := [some (.inr a0), none, none, some (.inl a3), some (.inl s4_8), some (.inl s5_8), some (.inl (s6_17 + (1 : Int32)))]) dX0_laysThere_115 (by decide) rfl rfl rfl ?_
                refine G_goto F (tgt := 81) dX0_laysThere_118 (by decide) ?_
                cases h
                exact G_sub F (L2 := [some (.inr a0), none, none, some (.inl a3), some (.inl s4_8), some (.inl s5_8), some (.inl (s6_17 + (1 : Int32)))]) ⟨rfl, ⟨rfl, ⟨rfl, ⟨rfl, ⟨rfl, trivial⟩⟩⟩⟩⟩ (hP17 _ rfl)
          have hI := iter_ok (fun (s : (Int32 × Hp)) => match s with | (s6_17, m17) => G X cx 7 (Qm X cx (some (.inl rv)) m_ nx 0 0) (0) (0) m17 (nx) [some (.inr a0), none, none, some (.inl a3), some (.inl s4_8), some (.inl s5_8), some (.inl s6_17)] [] 81) (fun q => q = r17) KB17 _ _ _ hr17 rfl
          exact G_sub F (L2 := [some (.inr a0), none, none, some (.inl a3), some (.inl s4_8), some (.inl s5_8), some (.inl (0 : Int32))]) ⟨rfl, ⟨rfl, ⟨rfl, ⟨rfl, ⟨rfl, trivial⟩⟩⟩⟩⟩ hI
        have KB10 : ∀ s o10, fX0_laysThere_L51 a0 a3 s4_8 s5_8 s = some o10 → (∀ s', o10 = Sum.inl s' → (fun (s : (Int32 × Hp)) => match s with | (s6_10, m10) => G X cx 7 (Qm X cx (some (.inl rv)) m_ nx 0 0) (0) (0) m10 (nx) [some (.inr a0), none, none, some (.inl a3), some (.inl s4_8), some (.inl s5_8), some (.inl s6_10)] [] 51) s') → (∀ q, o10 = Sum.inr q → q = r10) → (fun (s : (Int32 × Hp)) => match s with | (s6_10, m10) => G X cx 7 (Qm X cx (some (.inl rv)) m_ nx 0 0) (0) (0) m10 (nx) [some (.inr a0), none, none, some (.inl a3), some (.inl s4_8), some (.inl s5_8), some (.inl s6_10)] [] 51) s := by
          intro s o10 h hP10 hE10
          obtain ⟨s6_10, m10⟩ := s
          try dsimp only at hP10 hE10 ⊢
          refine G_iload F dX0_laysThere_51 rfl ?_
          refine G_bipush F (v := (10 : Int32)) dX0_laysThere_53 (by decide) ?_
          refine G_icmp_ge F (tgt := 78) dX0_laysThere_55 (by decide) (fun c11 => ?_) (fun c11 => ?_)
          · have h := itt c11 h
            cases h
            exact G_sub F (L2 := [some (.inr a0), none, none, some (.inl a3), some (.inl s4_8), some (.inl s5_8), none]) ⟨rfl, ⟨rfl, ⟨rfl, ⟨rfl, trivial⟩⟩⟩⟩ (KE10 _ (hE10 _ rfl))
          · have h := itf c11 h
            refine G_aload_n F dX0_laysThere_58 rfl ?_
            obtain ⟨v12, e_v12, h⟩ := bnd h
            refine G_getR F okX0 (f := 15) (by decide) q353 rfl dX0_laysThere_59 e_v12 ?_
            refine G_iload F dX0_laysThere_62 rfl ?_
            refine G_aload_n F dX0_laysThere_64 rfl ?_
            obtain ⟨v13, e_v13, h⟩ := bnd h
            refine G_getR F okX0 (f := 14) (by decide) q352 rfl dX0_laysThere_65 e_v13 ?_
            refine G_iload F dX0_laysThere_68 rfl ?_
            obtain ⟨v14, e_v14, h⟩ := bnd h
            refine G_iald F dX0_laysThere_70 e_v14 ?_
            obtain ⟨m15, e_m15, h⟩ := bnd h
            refine G_iast F dX0_laysThere_71 e_m15 ?_
            refine G_iinc F (v := (s6_10 + (1 : Int32))) (L2 := [some (.inr a0), none, none, some (.inl a3), some (.inl s4_8), some (.inl s5_8), some (.inl (s6_10 + (1 : Int32)))]) dX0_laysThere_72 (by decide) rfl rfl rfl ?_
            refine G_goto F (tgt := 51) dX0_laysThere_75 (by decide) ?_
            cases h
            exact G_sub F (L2 := [some (.inr a0), none, none, some (.inl a3), some (.inl s4_8), some (.inl s5_8), some (.inl (s6_10 + (1 : Int32)))]) ⟨rfl, ⟨rfl, ⟨rfl, ⟨rfl, ⟨rfl, trivial⟩⟩⟩⟩⟩ (hP10 _ rfl)
        have hI := iter_ok (fun (s : (Int32 × Hp)) => match s with | (s6_10, m10) => G X cx 7 (Qm X cx (some (.inl rv)) m_ nx 0 0) (0) (0) m10 (nx) [some (.inr a0), none, none, some (.inl a3), some (.inl s4_8), some (.inl s5_8), some (.inl s6_10)] [] 51) (fun q => q = r10) KB10 _ _ _ hr10 rfl
        exact G_sub F (L2 := [some (.inr a0), none, none, some (.inl a3), some (.inl s4_8), some (.inl s5_8), some (.inl (0 : Int32))]) ⟨rfl, ⟨rfl, ⟨rfl, ⟨rfl, ⟨rfl, trivial⟩⟩⟩⟩⟩ hI
    have hI := iter_ok (fun (s : (Int32 × Int32 × Hp)) => match s with | (s4_8, s5_8, m8) => G X cx 7 (Qm X cx (some (.inl rv)) m_ nx 0 0) (0) (0) m8 (nx) [some (.inr a0), none, none, some (.inl a3), some (.inl s4_8), some (.inl s5_8), none] [] 41) (fun q => q = r8) KB8 _ _ _ hr8 rfl
    exact G_sub F (L2 := [some (.inr a0), none, none, some (.inl a3), some (.inl (0 : Int32)), some (.inl (1 : Int32)), none]) ⟨rfl, ⟨rfl, ⟨rfl, ⟨rfl, trivial⟩⟩⟩⟩ hI
  have KB1 : ∀ s o1, fX0_laysThere_L3 a0 a1 a2 a3 s = some o1 → (∀ s', o1 = Sum.inl s' → (fun (s : (Int32 × Hp)) => match s with | (s4_1, m1) => G X cx 7 (Qm X cx (some (.inl rv)) m_ nx 0 0) (0) (0) m1 (nx) [some (.inr a0), some (.inl a1), some (.inl a2), some (.inl a3), some (.inl s4_1), none, none] [] 3) s') → (∀ q, o1 = Sum.inr q → q = r1) → (fun (s : (Int32 × Hp)) => match s with | (s4_1, m1) => G X cx 7 (Qm X cx (some (.inl rv)) m_ nx 0 0) (0) (0) m1 (nx) [some (.inr a0), some (.inl a1), some (.inl a2), some (.inl a3), some (.inl s4_1), none, none] [] 3) s := by
    intro s o1 h hP1 hE1
    obtain ⟨s4_1, m1⟩ := s
    try dsimp only at hP1 hE1 ⊢
    refine G_iload F dX0_laysThere_3 rfl ?_
    refine G_bipush F (v := (10 : Int32)) dX0_laysThere_5 (by decide) ?_
    refine G_icmp_ge F (tgt := 35) dX0_laysThere_7 (by decide) (fun c2 => ?_) (fun c2 => ?_)
    · have h := itt c2 h
      cases h
      exact G_sub F (L2 := [some (.inr a0), none, none, some (.inl a3), none, none, none]) ⟨rfl, ⟨rfl, trivial⟩⟩ (KE1 _ (hE1 _ rfl))
    · have h := itf c2 h
      refine G_aload_n F dX0_laysThere_10 rfl ?_
      obtain ⟨v3, e_v3, h⟩ := bnd h
      refine G_getR F okX0 (f := 14) (by decide) q352 rfl dX0_laysThere_11 e_v3 ?_
      refine G_iload F dX0_laysThere_14 rfl ?_
      refine G_iload F dX0_laysThere_16 rfl ?_
      refine G_iload_n F dX0_laysThere_18 rfl ?_
      refine G_icmp_ne F (tgt := 26) dX0_laysThere_19 (by decide) (fun c4 => ?_) (fun c4 => ?_)
      · have h := itf c4 h
        refine G_ldc F q1058 dX0_laysThere_26 ?_
        obtain ⟨m5, e_m5, h⟩ := bnd h
        refine G_iast F dX0_laysThere_28 e_m5 ?_
        refine G_iinc F (v := (s4_1 + (1 : Int32))) (L2 := [some (.inr a0), some (.inl a1), some (.inl a2), some (.inl a3), some (.inl (s4_1 + (1 : Int32))), none, none]) dX0_laysThere_29 (by decide) rfl rfl rfl ?_
        refine G_goto F (tgt := 3) dX0_laysThere_32 (by decide) ?_
        cases h
        exact G_sub F (L2 := [some (.inr a0), some (.inl a1), some (.inl a2), some (.inl a3), some (.inl (s4_1 + (1 : Int32))), none, none]) ⟨rfl, ⟨rfl, ⟨rfl, ⟨rfl, ⟨rfl, trivial⟩⟩⟩⟩⟩ (hP1 _ rfl)
      · have h := itt c4 h
        refine G_iload_n F dX0_laysThere_22 rfl ?_
        refine G_goto F (tgt := 28) dX0_laysThere_23 (by decide) ?_
        obtain ⟨m6, e_m6, h⟩ := bnd h
        refine G_iast F dX0_laysThere_28 e_m6 ?_
        refine G_iinc F (v := (s4_1 + (1 : Int32))) (L2 := [some (.inr a0), some (.inl a1), some (.inl a2), some (.inl a3), some (.inl (s4_1 + (1 : Int32))), none, none]) dX0_laysThere_29 (by decide) rfl rfl rfl ?_
        refine G_goto F (tgt := 3) dX0_laysThere_32 (by decide) ?_
        cases h
        exact G_sub F (L2 := [some (.inr a0), some (.inl a1), some (.inl a2), some (.inl a3), some (.inl (s4_1 + (1 : Int32))), none, none]) ⟨rfl, ⟨rfl, ⟨rfl, ⟨rfl, ⟨rfl, trivial⟩⟩⟩⟩⟩ (hP1 _ rfl)
  have hI := iter_ok (fun (s : (Int32 × Hp)) => match s with | (s4_1, m1) => G X cx 7 (Qm X cx (some (.inl rv)) m_ nx 0 0) (0) (0) m1 (nx) [some (.inr a0), some (.inl a1), some (.inl a2), some (.inl a3), some (.inl s4_1), none, none] [] 3) (fun q => q = r1) KB1 _ _ _ hr1 rfl
  exact G_sub F (L2 := [some (.inr a0), some (.inl a1), some (.inl a2), some (.inl a3), some (.inl (0 : Int32)), none, none]) ⟨rfl, ⟨rfl, ⟨rfl, ⟨rfl, ⟨rfl, trivial⟩⟩⟩⟩⟩ hI

theorem metX0_earliest (X : Gx) {m : Hp} {nx : Nat} {a0 : Option Nat} {a1 : Int32} {a2 : Int32} {a3 : Int32} {a4 : Int32} {rv : Int32} {m_ : Hp} (h : fX0_earliest m a0 a1 a2 a3 a4 = some (rv, m_)) : Con X (4) yX0_earliest cX0_earliest 6 ((Option.some FieldType.int)) [.inr a0, .inl a1, .inl a2, .inl a3, .inl a4] m nx (some (.inl rv)) m_ 0 0 := by
  refine Con.of (own := RX0) (nm := "earliest") (L := [some (.inr a0), some (.inl a1), some (.inl a2), some (.inl a3), some (.inl a4), none]) (by decide +kernel) rfl rfl (Nat.le_of_ble_eq_true rfl) (ent_of 1 rfl) ?_
  intro cx F
  refine G_iload_n F dX0_earliest_0 rfl ?_
  refine G_iload_n F dX0_earliest_1 rfl ?_
  obtain ⟨v1, e_v1, h⟩ := bnd h
  refine G_callSv F (As := [.inl a1, .inl a2]) (st := []) (metX0_areTwo X e_v1) (lw_S q412 q413 q102 q414) hdfX0_areTwo ⟨by omega, by decide⟩ rfl (Nat.le_of_ble_eq_true rfl) ⟨by omega, by omega⟩ dX0_earliest_2 ?_
  refine G_if_eq F (tgt := 27) dX0_earliest_5 (by decide) (fun c2 => ?_) (fun c2 => ?_)
  · have h := itt c2 h
    refine G_iconst F (v := (-1 : Int32)) dX0_earliest_27 (by decide) ?_
    cases h
    exact G_iret F rfl (Nat.le_refl _) (Nat.le_refl _) rfl dX0_earliest_28
  · have h := itf c2 h
    refine G_iload_n F dX0_earliest_8 rfl ?_
    refine G_sipush F (v := (1440 : Int32)) dX0_earliest_9 (by decide) ?_
    obtain ⟨v3, e_v3, h⟩ := bnd h
    refine G_callSv F (As := [.inl a3, .inl (1440 : Int32)]) (st := []) (metX0_in X e_v3) (lw_S q409 q410 q102 q411) hdfX0_in ⟨by omega, by decide⟩ rfl (Nat.le_of_ble_eq_true rfl) ⟨by omega, by omega⟩ dX0_earliest_12 ?_
    refine G_if_eq F (tgt := 27) dX0_earliest_15 (by decide) (fun c4 => ?_) (fun c4 => ?_)
    · have h := itt c4 h
      refine G_iconst F (v := (-1 : Int32)) dX0_earliest_27 (by decide) ?_
      cases h
      exact G_iret F rfl (Nat.le_refl _) (Nat.le_refl _) rfl dX0_earliest_28
    · have h := itf c4 h
      refine G_iload F dX0_earliest_18 rfl ?_
      refine G_iconst F (v := (2 : Int32)) dX0_earliest_20 (by decide) ?_
      obtain ⟨v5, e_v5, h⟩ := bnd h
      refine G_callSv F (As := [.inl a4, .inl (2 : Int32)]) (st := []) (metX0_in X e_v5) (lw_S q409 q410 q102 q411) hdfX0_in ⟨by omega, by decide⟩ rfl (Nat.le_of_ble_eq_true rfl) ⟨by omega, by omega⟩ dX0_earliest_21 ?_
      refine G_if_ne F (tgt := 29) dX0_earliest_24 (by decide) (fun c6 => ?_) (fun c6 => ?_)
      · have h := itf c6 h
        refine G_aload_n F dX0_earliest_29 rfl ?_
        refine G_iload_n F dX0_earliest_30 rfl ?_
        refine G_iload_n F dX0_earliest_31 rfl ?_
        refine G_iload_n F dX0_earliest_32 rfl ?_
        obtain ⟨⟨v7, m8⟩, e_v7, h⟩ := bnd h
        obtain ⟨hc_v7, e_v7⟩ := hp_on_of e_v7
        refine G_callVv F (As := [.inl a1, .inl a3, .inl a2]) (st := []) (metX0_laysThere X e_v7) hc_v7 rfl rfl (lw_V q1054 q1056 qs29 q102 q1057) hdfX0_laysThere ⟨by omega, by decide⟩ rfl (Nat.le_of_ble_eq_true rfl) ⟨by omega, by omega⟩ dX0_earliest_33 ?_
        refine G_istore F (L2 := [some (.inr a0), some (.inl a1), some (.inl a2), some (.inl a3), some (.inl a4), some (.inl v7)]) dX0_earliest_36 (by decide) rfl ?_
        refine G_aload_n F dX0_earliest_38 rfl ?_
        obtain ⟨v9, e_v9, h⟩ := bnd h
        refine G_getR F okX0 (f := 14) (by decide) q352 rfl dX0_earliest_39 e_v9 ?_
        refine G_iload_n F dX0_earliest_42 rfl ?_
        obtain ⟨v10, e_v10, h⟩ := bnd h
        refine G_iald F dX0_earliest_43 e_v10 ?_
        refine G_ldc F q1058 dX0_earliest_44 ?_
        refine G_icmp_ne F (tgt := 54) dX0_earliest_46 (by decide) (fun c11 => ?_) (fun c11 => ?_)
        · have h := itf c11 h
          refine G_iload F dX0_earliest_54 rfl ?_
          refine G_if_ne F (tgt := 68) dX0_earliest_56 (by decide) (fun c12 => ?_) (fun c12 => ?_)
          · have h := itf c12 h
            refine G_iload F dX0_earliest_68 rfl ?_
            cases h
            exact G_iret F rfl (Nat.le_refl _) (Nat.le_refl _) rfl dX0_earliest_70
          · have h := itt c12 h
            refine G_aload_n F dX0_earliest_59 rfl ?_
            obtain ⟨v13, e_v13, h⟩ := bnd h
            refine G_getR F okX0 (f := 14) (by decide) q352 rfl dX0_earliest_60 e_v13 ?_
            refine G_iload_n F dX0_earliest_63 rfl ?_
            obtain ⟨v14, e_v14, h⟩ := bnd h
            refine G_iald F dX0_earliest_64 e_v14 ?_
            refine G_goto F (tgt := 70) dX0_earliest_65 (by decide) ?_
            cases h
            exact G_iret F rfl (Nat.le_refl _) (Nat.le_refl _) rfl dX0_earliest_70
        · have h := itt c11 h
          refine G_bipush F (v := (-2 : Int32)) dX0_earliest_49 (by decide) ?_
          refine G_goto F (tgt := 70) dX0_earliest_51 (by decide) ?_
          cases h
          exact G_iret F rfl (Nat.le_refl _) (Nat.le_refl _) rfl dX0_earliest_70
      · have h := itt c6 h
        refine G_iconst F (v := (-1 : Int32)) dX0_earliest_27 (by decide) ?_
        cases h
        exact G_iret F rfl (Nat.le_refl _) (Nat.le_refl _) rfl dX0_earliest_28

theorem metX0_arrivalFrom (X : Gx) {m : Hp} {nx : Nat} {a0 : Option Nat} {a1 : Int32} {a2 : Int32} {a3 : Int32} {rv : Int32} {m_ : Hp} (h : fX0_arrivalFrom m a0 a1 a2 a3 = some (rv, m_)) : Con X (4) yX0_arrivalFrom cX0_arrivalFrom 5 ((Option.some FieldType.int)) [.inr a0, .inl a1, .inl a2, .inl a3] m nx (some (.inl rv)) m_ 0 0 := by
  refine Con.of (own := RX0) (nm := "arrivalFrom") (L := [some (.inr a0), some (.inl a1), some (.inl a2), some (.inl a3), none]) (by decide +kernel) rfl rfl (Nat.le_of_ble_eq_true rfl) (ent_of 1 rfl) ?_
  intro cx F
  refine G_aload_n F dX0_arrivalFrom_0 rfl ?_
  refine G_iload_n F dX0_arrivalFrom_1 rfl ?_
  refine G_iload_n F dX0_arrivalFrom_2 rfl ?_
  refine G_iload_n F dX0_arrivalFrom_3 rfl ?_
  obtain ⟨⟨v1, m2⟩, e_v1, h⟩ := bnd h
  obtain ⟨hc_v1, e_v1⟩ := hp_on_of e_v1
  refine G_callVv F (As := [.inl a1, .inl a3, .inl a2]) (st := []) (metX0_laysThere X e_v1) hc_v1 rfl rfl (lw_V q1054 q1056 qs29 q102 q1057) hdfX0_laysThere ⟨by omega, by decide⟩ rfl (Nat.le_of_ble_eq_true rfl) ⟨by omega, by omega⟩ dX0_arrivalFrom_4 ?_
  refine G_istore F (L2 := [some (.inr a0), some (.inl a1), some (.inl a2), some (.inl a3), some (.inl v1)]) dX0_arrivalFrom_7 (by decide) rfl ?_
  refine G_aload_n F dX0_arrivalFrom_9 rfl ?_
  obtain ⟨v3, e_v3, h⟩ := bnd h
  refine G_getR F okX0 (f := 14) (by decide) q352 rfl dX0_arrivalFrom_10 e_v3 ?_
  refine G_iload_n F dX0_arrivalFrom_13 rfl ?_
  obtain ⟨v4, e_v4, h⟩ := bnd h
  refine G_iald F dX0_arrivalFrom_14 e_v4 ?_
  cases h
  exact G_iret F rfl (Nat.le_refl _) (Nat.le_refl _) rfl dX0_arrivalFrom_15

theorem metX6_leaves (X : Gx) {m : Hp} {nx : Nat} {a0 : Option Nat} {a1 : Int32} {rv : Int32} (h : fX6_leaves m a0 a1 = some rv) : Con X (2) yX6_leaves cX6_leaves 2 ((Option.some FieldType.boolean)) [.inr a0, .inl a1] m nx (some (.inl rv)) m 0 0 := by
  refine Con.of (own := RX6) (nm := "leaves") (L := [some (.inr a0), some (.inl a1)]) (by decide +kernel) rfl rfl (Nat.le_of_ble_eq_true rfl) (ent_of 0 rfl) ?_
  intro cx F
  refine G_aload_n F dX6_leaves_0 rfl ?_
  obtain ⟨v1, e_v1, h⟩ := bnd h
  refine G_getI F okX6 (f := 4) (by decide) q310 rfl dX6_leaves_1 e_v1 ?_
  refine G_if_eq F (tgt := 34) dX6_leaves_4 (by decide) (fun c2 => ?_) (fun c2 => ?_)
  · have h := itt c2 h
    refine G_iconst F (v := (0 : Int32)) dX6_leaves_34 (by decide) ?_
    cases h
    exact G_zret F rfl (Or.inl rfl) (Nat.le_refl _) (Nat.le_refl _) rfl dX6_leaves_35
  · have h := itf c2 h
    refine G_aload_n F dX6_leaves_7 rfl ?_
    refine G_iload_n F dX6_leaves_8 rfl ?_
    obtain ⟨v3, e_v3, h⟩ := bnd h
    obtain ⟨hc_v3, e_v3⟩ := hp_on_of e_v3
    refine G_callVv F (As := [.inl a1]) (st := []) (metX6_stopAt X e_v3) hc_v3 rfl rfl (lw_V q1071 q803 q804 q108 q805) hdfX6_stopAt ⟨by omega, by decide⟩ rfl (Nat.le_of_ble_eq_true rfl) ⟨by omega, by omega⟩ dX6_leaves_9 ?_
    refine G_iconst F (v := (-1 : Int32)) dX6_leaves_12 (by decide) ?_
    refine G_icmp_eq F (tgt := 34) dX6_leaves_13 (by decide) (fun c4 => ?_) (fun c4 => ?_)
    · have h := itt c4 h
      refine G_iconst F (v := (0 : Int32)) dX6_leaves_34 (by decide) ?_
      cases h
      exact G_zret F rfl (Or.inl rfl) (Nat.le_refl _) (Nat.le_refl _) rfl dX6_leaves_35
    · have h := itf c4 h
      refine G_aload_n F dX6_leaves_16 rfl ?_
      refine G_iload_n F dX6_leaves_17 rfl ?_
      obtain ⟨v5, e_v5, h⟩ := bnd h
      obtain ⟨hc_v5, e_v5⟩ := hp_on_of e_v5
      refine G_callVv F (As := [.inl a1]) (st := []) (metX6_stopAt X e_v5) hc_v5 rfl rfl (lw_V q1071 q803 q804 q108 q805) hdfX6_stopAt ⟨by omega, by decide⟩ rfl (Nat.le_of_ble_eq_true rfl) ⟨by omega, by omega⟩ dX6_leaves_18 ?_
      refine G_aload_n F dX6_leaves_21 rfl ?_
      obtain ⟨v6, e_v6, h⟩ := bnd h
      refine G_getI F okX6 (f := 2) (by decide) q303 rfl dX6_leaves_22 e_v6 ?_
      refine G_iconst F (v := (1 : Int32)) dX6_leaves_25 (by decide) ?_
      refine G_isub F dX6_leaves_26 ?_
      refine G_icmp_ge F (tgt := 34) dX6_leaves_27 (by decide) (fun c7 => ?_) (fun c7 => ?_)
      · have h := itt c7 h
        refine G_iconst F (v := (0 : Int32)) dX6_leaves_34 (by decide) ?_
        cases h
        exact G_zret F rfl (Or.inl rfl) (Nat.le_refl _) (Nat.le_refl _) rfl dX6_leaves_35
      · have h := itf c7 h
        refine G_iconst F (v := (1 : Int32)) dX6_leaves_30 (by decide) ?_
        refine G_goto F (tgt := 35) dX6_leaves_31 (by decide) ?_
        cases h
        exact G_zret F rfl (Or.inr rfl) (Nat.le_refl _) (Nat.le_refl _) rfl dX6_leaves_35

theorem metX6_minuteAt (X : Gx) {m : Hp} {nx : Nat} {a0 : Option Nat} {a1 : Int32} {rv : Int32} (h : fX6_minuteAt m a0 a1 = some rv) : Con X (2) yX6_minuteAt cX6_minuteAt 2 ((Option.some FieldType.int)) [.inr a0, .inl a1] m nx (some (.inl rv)) m 0 0 := by
  refine Con.of (own := RX6) (nm := "minuteAt") (L := [some (.inr a0), some (.inl a1)]) (by decide +kernel) rfl rfl (Nat.le_of_ble_eq_true rfl) (ent_of 0 rfl) ?_
  intro cx F
  refine G_aload_n F dX6_minuteAt_0 rfl ?_
  obtain ⟨v1, e_v1, h⟩ := bnd h
  refine G_getR F okX6 (f := 1) (by decide) q299 rfl dX6_minuteAt_1 e_v1 ?_
  refine G_aload_n F dX6_minuteAt_4 rfl ?_
  refine G_iload_n F dX6_minuteAt_5 rfl ?_
  obtain ⟨v2, e_v2, h⟩ := bnd h
  obtain ⟨hc_v2, e_v2⟩ := hp_on_of e_v2
  refine G_callVv F (As := [.inl a1]) (st := [.inr v1]) (metX6_stopAt X e_v2) hc_v2 rfl rfl (lw_V q1071 q803 q804 q108 q805) hdfX6_stopAt ⟨by omega, by decide⟩ rfl (Nat.le_of_ble_eq_true rfl) ⟨by omega, by omega⟩ dX6_minuteAt_6 ?_
  obtain ⟨v3, e_v3, h⟩ := bnd h
  refine G_iald F dX6_minuteAt_9 e_v3 ?_
  cases h
  exact G_iret F rfl (Nat.le_refl _) (Nat.le_refl _) rfl dX6_minuteAt_10

theorem metX0_latest (X : Gx) {m : Hp} {nx : Nat} {a0 : Option Nat} {a1 : Int32} {a2 : Int32} {a3 : Int32} {rv : Int32} {m_ : Hp} (h : fX0_latest m a0 a1 a2 a3 = some (rv, m_)) : Con X (5) yX0_latest cX0_latest 7 ((Option.some FieldType.int)) [.inr a0, .inl a1, .inl a2, .inl a3] m nx (some (.inl rv)) m_ 0 0 := by
  refine Con.of (own := RX0) (nm := "latest") (L := [some (.inr a0), some (.inl a1), some (.inl a2), some (.inl a3), none, none, none]) (by decide +kernel) rfl rfl (Nat.le_of_ble_eq_true rfl) (ent_of 3 rfl) ?_
  intro cx F
  refine G_iload_n F dX0_latest_0 rfl ?_
  refine G_iload_n F dX0_latest_1 rfl ?_
  obtain ⟨v1, e_v1, h⟩ := bnd h
  refine G_callSv F (As := [.inl a1, .inl a2]) (st := []) (metX0_areTwo X e_v1) (lw_S q412 q413 q102 q414) hdfX0_areTwo ⟨by omega, by decide⟩ rfl (Nat.le_of_ble_eq_true rfl) ⟨by omega, by omega⟩ dX0_latest_2 ?_
  refine G_if_eq F (tgt := 18) dX0_latest_5 (by decide) (fun c2 => ?_) (fun c2 => ?_)
  · have h := itt c2 h
    refine G_iconst F (v := (-1 : Int32)) dX0_latest_18 (by decide) ?_
    cases h
    exact G_iret F rfl (Nat.le_refl _) (Nat.le_refl _) rfl dX0_latest_19
  · have h := itf c2 h
    refine G_iload_n F dX0_latest_8 rfl ?_
    refine G_sipush F (v := (1440 : Int32)) dX0_latest_9 (by decide) ?_
    obtain ⟨v3, e_v3, h⟩ := bnd h
    refine G_callSv F (As := [.inl a3, .inl (1440 : Int32)]) (st := []) (metX0_in X e_v3) (lw_S q409 q410 q102 q411) hdfX0_in ⟨by omega, by decide⟩ rfl (Nat.le_of_ble_eq_true rfl) ⟨by omega, by omega⟩ dX0_latest_12 ?_
    refine G_if_ne F (tgt := 20) dX0_latest_15 (by decide) (fun c4 => ?_) (fun c4 => ?_)
    · have h := itf c4 h
      refine G_bipush F (v := (-2 : Int32)) dX0_latest_20 (by decide) ?_
      refine G_istore F (L2 := [some (.inr a0), some (.inl a1), some (.inl a2), some (.inl a3), some (.inl (-2 : Int32)), none, none]) dX0_latest_22 (by decide) rfl ?_
      refine G_iconst F (v := (0 : Int32)) dX0_latest_24 (by decide) ?_
      refine G_istore F (L2 := [some (.inr a0), some (.inl a1), some (.inl a2), some (.inl a3), some (.inl (-2 : Int32)), some (.inl (0 : Int32)), none]) dX0_latest_25 (by decide) rfl ?_
      obtain ⟨r5, hr5, h⟩ := bnd h
      have KE5 : ∀ (v21 : Int32) (m22 : Hp), (v21, m22) = r5 → G X cx 7 (Qm X cx (some (.inl rv)) m_ nx 0 0) (0) (0) m22 (nx) [none, none, none, none, some (.inl v21), none, none] [] 96 := by
        intro v21 m22 hq
        subst hq
        try dsimp only at h
        refine G_iload F dX0_latest_96 rfl ?_
        cases h
        exact G_iret F rfl (Nat.le_refl _) (Nat.le_refl _) rfl dX0_latest_98
      have KB5 : ∀ s o5, fX0_latest_L27 a0 a1 a2 a3 s = some o5 → (∀ s', o5 = Sum.inl s' → (fun (s : (Int32 × Int32 × Hp)) => match s with | (s4_5, s5_5, m5) => G X cx 7 (Qm X cx (some (.inl rv)) m_ nx 0 0) (0) (0) m5 (nx) [some (.inr a0), some (.inl a1), some (.inl a2), some (.inl a3), some (.inl s4_5), some (.inl s5_5), none] [] 27) s') → (∀ q, o5 = Sum.inr q → q = r5) → (fun (s : (Int32 × Int32 × Hp)) => match s with | (s4_5, s5_5, m5) => G X cx 7 (Qm X cx (some (.inl rv)) m_ nx 0 0) (0) (0) m5 (nx) [some (.inr a0), some (.inl a1), some (.inl a2), some (.inl a3), some (.inl s4_5), some (.inl s5_5), none] [] 27) s := by
        intro s o5 h hP5 hE5
        obtain ⟨s4_5, s5_5, m5⟩ := s
        try dsimp only at hP5 hE5 ⊢
        refine G_iload F dX0_latest_27 rfl ?_
        refine G_aload_n F dX0_latest_29 rfl ?_
        obtain ⟨v6, e_v6, h⟩ := bnd h
        refine G_getI F okX0 (f := 3) (by decide) q335 rfl dX0_latest_30 e_v6 ?_
        refine G_icmp_ge F (tgt := 96) dX0_latest_33 (by decide) (fun c7 => ?_) (fun c7 => ?_)
        · have h := itt c7 h
          cases h
          exact G_sub F (L2 := [none, none, none, none, some (.inl s4_5), none, none]) ⟨rfl, trivial⟩ (KE5 _ _ (hE5 _ rfl))
        · have h := itf c7 h
          refine G_aload_n F dX0_latest_36 rfl ?_
          obtain ⟨v8, e_v8, h⟩ := bnd h
          refine G_getR F okX0 (f := 0) (by decide) q328 rfl dX0_latest_37 e_v8 ?_
          refine G_iload F dX0_latest_40 rfl ?_
          obtain ⟨v9, e_v9, h⟩ := bnd h
          refine G_aald F (t := 5) (by decide) dX0_latest_42 e_v9 ?_
          refine G_iload_n F dX0_latest_43 rfl ?_
          obtain ⟨v10, e_v10, h⟩ := bnd h
          obtain ⟨hc_v10, e_v10⟩ := hp_on_of e_v10
          refine G_callVv F (As := [.inl a1]) (st := []) (metX6_leaves X e_v10) hc_v10 rfl rfl (lw_V q1067 q1068 q1069 q108 q1070) hdfX6_leaves ⟨by omega, by decide⟩ rfl (Nat.le_of_ble_eq_true rfl) ⟨by omega, by omega⟩ dX0_latest_44 ?_
          obtain ⟨p12, hp12, h⟩ := bnd h
          have K12 : ∀ (v11 : Int32), v11 = p12 → G X cx 7 (Qm X cx (some (.inl rv)) m_ nx 0 0) (0) (0) m5 (nx) [some (.inr a0), some (.inl a1), some (.inl a2), some (.inl a3), some (.inl s4_5), some (.inl s5_5), none] [.inl v11] 65 := by
            intro v11 hq
            subst hq
            try dsimp only at h
            refine G_istore F (L2 := [some (.inr a0), some (.inl a1), some (.inl a2), some (.inl a3), some (.inl s4_5), some (.inl s5_5), some (.inl v11)]) dX0_latest_65 (by decide) rfl ?_
            refine G_iload F dX0_latest_67 rfl ?_
            refine G_iload F dX0_latest_69 rfl ?_
            refine G_icmp_le F (tgt := 90) dX0_latest_71 (by decide) (fun c13 => ?_) (fun c13 => ?_)
            · have h := itt c13 h
              refine G_iinc F (v := (s5_5 + (1 : Int32))) (L2 := [some (.inr a0), some (.inl a1), some (.inl a2), some (.inl a3), some (.inl s4_5), some (.inl (s5_5 + (1 : Int32))), some (.inl v11)]) dX0_latest_90 (by decide) rfl rfl rfl ?_
              refine G_goto F (tgt := 27) dX0_latest_93 (by decide) ?_
              cases h
              exact G_sub F (L2 := [some (.inr a0), some (.inl a1), some (.inl a2), some (.inl a3), some (.inl s4_5), some (.inl (s5_5 + (1 : Int32))), none]) ⟨rfl, ⟨rfl, ⟨rfl, ⟨rfl, ⟨rfl, ⟨rfl, trivial⟩⟩⟩⟩⟩⟩ (hP5 _ rfl)
            · have h := itf c13 h
              refine G_aload_n F dX0_latest_74 rfl ?_
              refine G_iload_n F dX0_latest_75 rfl ?_
              refine G_iload_n F dX0_latest_76 rfl ?_
              refine G_iload F dX0_latest_77 rfl ?_
              obtain ⟨⟨v14, m15⟩, e_v14, h⟩ := bnd h
              obtain ⟨hc_v14, e_v14⟩ := hp_on_of e_v14
              refine G_callVv F (As := [.inl a1, .inl a2, .inl v11]) (st := []) (metX0_arrivalFrom X e_v14) hc_v14 rfl rfl (lw_V q1076 q1078 qs31 q102 q1079) hdfX0_arrivalFrom ⟨by omega, by decide⟩ rfl (Nat.le_of_ble_eq_true rfl) ⟨by omega, by omega⟩ dX0_latest_79 ?_
              refine G_iload_n F dX0_latest_82 rfl ?_
              refine G_icmp_gt F (tgt := 90) dX0_latest_83 (by decide) (fun c16 => ?_) (fun c16 => ?_)
              · have h := itt c16 h
                refine G_iinc F (v := (s5_5 + (1 : Int32))) (L2 := [some (.inr a0), some (.inl a1), some (.inl a2), some (.inl a3), some (.inl s4_5), some (.inl (s5_5 + (1 : Int32))), some (.inl v11)]) dX0_latest_90 (by decide) rfl rfl rfl ?_
                refine G_goto F (tgt := 27) dX0_latest_93 (by decide) ?_
                cases h
                exact G_sub F (L2 := [some (.inr a0), some (.inl a1), some (.inl a2), some (.inl a3), some (.inl s4_5), some (.inl (s5_5 + (1 : Int32))), none]) ⟨rfl, ⟨rfl, ⟨rfl, ⟨rfl, ⟨rfl, ⟨rfl, trivial⟩⟩⟩⟩⟩⟩ (hP5 _ rfl)
              · have h := itf c16 h
                refine G_iload F dX0_latest_86 rfl ?_
                refine G_istore F (L2 := [some (.inr a0), some (.inl a1), some (.inl a2), some (.inl a3), some (.inl v11), some (.inl s5_5), some (.inl v11)]) dX0_latest_88 (by decide) rfl ?_
                refine G_iinc F (v := (s5_5 + (1 : Int32))) (L2 := [some (.inr a0), some (.inl a1), some (.inl a2), some (.inl a3), some (.inl v11), some (.inl (s5_5 + (1 : Int32))), some (.inl v11)]) dX0_latest_90 (by decide) rfl rfl rfl ?_
                refine G_goto F (tgt := 27) dX0_latest_93 (by decide) ?_
                cases h
                exact G_sub F (L2 := [some (.inr a0), some (.inl a1), some (.inl a2), some (.inl a3), some (.inl v11), some (.inl (s5_5 + (1 : Int32))), none]) ⟨rfl, ⟨rfl, ⟨rfl, ⟨rfl, ⟨rfl, ⟨rfl, trivial⟩⟩⟩⟩⟩⟩ (hP5 _ rfl)
          have h := hp12
          clear hp12
          refine G_if_eq F (tgt := 64) dX0_latest_47 (by decide) (fun c17 => ?_) (fun c17 => ?_)
          · have h := itt c17 h
            refine G_iconst F (v := (-1 : Int32)) dX0_latest_64 (by decide) ?_
            have hq_ := Option.some.inj h
            exact G_sub F (L2 := [some (.inr a0), some (.inl a1), some (.inl a2), some (.inl a3), some (.inl s4_5), some (.inl s5_5), none]) ⟨rfl, ⟨rfl, ⟨rfl, ⟨rfl, ⟨rfl, ⟨rfl, trivial⟩⟩⟩⟩⟩⟩ (K12 _ hq_)
          · have h := itf c17 h
            refine G_aload_n F dX0_latest_50 rfl ?_
            obtain ⟨v18, e_v18, h⟩ := bnd h
            refine G_getR F okX0 (f := 0) (by decide) q328 rfl dX0_latest_51 e_v18 ?_
            refine G_iload F dX0_latest_54 rfl ?_
            obtain ⟨v19, e_v19, h⟩ := bnd h
            refine G_aald F (t := 5) (by decide) dX0_latest_56 e_v19 ?_
            refine G_iload_n F dX0_latest_57 rfl ?_
            obtain ⟨v20, e_v20, h⟩ := bnd h
            obtain ⟨hc_v20, e_v20⟩ := hp_on_of e_v20
            refine G_callVv F (As := [.inl a1]) (st := []) (metX6_minuteAt X e_v20) hc_v20 rfl rfl (lw_V q1072 q1073 q1074 q108 q1075) hdfX6_minuteAt ⟨by omega, by decide⟩ rfl (Nat.le_of_ble_eq_true rfl) ⟨by omega, by omega⟩ dX0_latest_58 ?_
            refine G_goto F (tgt := 65) dX0_latest_61 (by decide) ?_
            have hq_ := Option.some.inj h
            exact G_sub F (L2 := [some (.inr a0), some (.inl a1), some (.inl a2), some (.inl a3), some (.inl s4_5), some (.inl s5_5), none]) ⟨rfl, ⟨rfl, ⟨rfl, ⟨rfl, ⟨rfl, ⟨rfl, trivial⟩⟩⟩⟩⟩⟩ (K12 _ hq_)
      have hI := iter_ok (fun (s : (Int32 × Int32 × Hp)) => match s with | (s4_5, s5_5, m5) => G X cx 7 (Qm X cx (some (.inl rv)) m_ nx 0 0) (0) (0) m5 (nx) [some (.inr a0), some (.inl a1), some (.inl a2), some (.inl a3), some (.inl s4_5), some (.inl s5_5), none] [] 27) (fun q => q = r5) KB5 _ _ _ hr5 rfl
      exact G_sub F (L2 := [some (.inr a0), some (.inl a1), some (.inl a2), some (.inl a3), some (.inl (-2 : Int32)), some (.inl (0 : Int32)), none]) ⟨rfl, ⟨rfl, ⟨rfl, ⟨rfl, ⟨rfl, ⟨rfl, trivial⟩⟩⟩⟩⟩⟩ hI
    · have h := itt c4 h
      refine G_iconst F (v := (-1 : Int32)) dX0_latest_18 (by decide) ?_
      cases h
      exact G_iret F rfl (Nat.le_refl _) (Nat.le_refl _) rfl dX0_latest_19

theorem metX0_fastest (X : Gx) {m : Hp} {nx : Nat} {a0 : Option Nat} {a1 : Int32} {a2 : Int32} {rv : Int32} {m_ : Hp} (h : fX0_fastest m a0 a1 a2 = some (rv, m_)) : Con X (5) yX0_fastest cX0_fastest 5 ((Option.some FieldType.int)) [.inr a0, .inl a1, .inl a2] m nx (some (.inl rv)) m_ 0 0 := by
  refine Con.of (own := RX0) (nm := "fastest") (L := [some (.inr a0), some (.inl a1), some (.inl a2), none, none]) (by decide +kernel) rfl rfl (Nat.le_of_ble_eq_true rfl) (ent_of 2 rfl) ?_
  intro cx F
  refine G_iload_n F dX0_fastest_0 rfl ?_
  refine G_iload_n F dX0_fastest_1 rfl ?_
  obtain ⟨v1, e_v1, h⟩ := bnd h
  refine G_callSv F (As := [.inl a1, .inl a2]) (st := []) (metX0_areTwo X e_v1) (lw_S q412 q413 q102 q414) hdfX0_areTwo ⟨by omega, by decide⟩ rfl (Nat.le_of_ble_eq_true rfl) ⟨by omega, by omega⟩ dX0_fastest_2 ?_
  refine G_if_ne F (tgt := 10) dX0_fastest_5 (by decide) (fun c2 => ?_) (fun c2 => ?_)
  · have h := itf c2 h
    refine G_ldc F q1058 dX0_fastest_10 ?_
    refine G_istore_n F (L2 := [some (.inr a0), some (.inl a1), some (.inl a2), some (.inl (268435456 : Int32)), none]) dX0_fastest_12 (by decide) rfl ?_
    refine G_iconst F (v := (0 : Int32)) dX0_fastest_13 (by decide) ?_
    refine G_istore F (L2 := [some (.inr a0), some (.inl a1), some (.inl a2), some (.inl (268435456 : Int32)), some (.inl (0 : Int32))]) dX0_fastest_14 (by decide) rfl ?_
    obtain ⟨r3, hr3, h⟩ := bnd h
    have KE3 : ∀ (v18 : Int32) (m19 : Hp), (v18, m19) = r3 → G X cx 5 (Qm X cx (some (.inl rv)) m_ nx 0 0) (0) (0) m19 (nx) [none, none, none, some (.inl v18), none] [] 79 := by
      intro v18 m19 hq
      subst hq
      try dsimp only at h
      refine G_iload_n F dX0_fastest_79 rfl ?_
      refine G_sipush F (v := (1440 : Int32)) dX0_fastest_80 (by decide) ?_
      refine G_icmp_lt F (tgt := 91) dX0_fastest_83 (by decide) (fun c20 => ?_) (fun c20 => ?_)
      · have h := itt c20 h
        refine G_iload_n F dX0_fastest_91 rfl ?_
        cases h
        exact G_iret F rfl (Nat.le_refl _) (Nat.le_refl _) rfl dX0_fastest_92
      · have h := itf c20 h
        refine G_bipush F (v := (-2 : Int32)) dX0_fastest_86 (by decide) ?_
        refine G_goto F (tgt := 92) dX0_fastest_88 (by decide) ?_
        cases h
        exact G_iret F rfl (Nat.le_refl _) (Nat.le_refl _) rfl dX0_fastest_92
    have KB3 : ∀ s o3, fX0_fastest_L16 a0 a1 a2 s = some o3 → (∀ s', o3 = Sum.inl s' → (fun (s : (Int32 × Int32 × Hp)) => match s with | (s3_3, s4_3, m3) => G X cx 5 (Qm X cx (some (.inl rv)) m_ nx 0 0) (0) (0) m3 (nx) [some (.inr a0), some (.inl a1), some (.inl a2), some (.inl s3_3), some (.inl s4_3)] [] 16) s') → (∀ q, o3 = Sum.inr q → q = r3) → (fun (s : (Int32 × Int32 × Hp)) => match s with | (s3_3, s4_3, m3) => G X cx 5 (Qm X cx (some (.inl rv)) m_ nx 0 0) (0) (0) m3 (nx) [some (.inr a0), some (.inl a1), some (.inl a2), some (.inl s3_3), some (.inl s4_3)] [] 16) s := by
      intro s o3 h hP3 hE3
      obtain ⟨s3_3, s4_3, m3⟩ := s
      try dsimp only at hP3 hE3 ⊢
      refine G_iload F dX0_fastest_16 rfl ?_
      refine G_aload_n F dX0_fastest_18 rfl ?_
      obtain ⟨v4, e_v4, h⟩ := bnd h
      refine G_getI F okX0 (f := 3) (by decide) q335 rfl dX0_fastest_19 e_v4 ?_
      refine G_icmp_ge F (tgt := 79) dX0_fastest_22 (by decide) (fun c5 => ?_) (fun c5 => ?_)
      · have h := itt c5 h
        cases h
        exact G_sub F (L2 := [none, none, none, some (.inl s3_3), none]) ⟨rfl, trivial⟩ (KE3 _ _ (hE3 _ rfl))
      · have h := itf c5 h
        refine G_aload_n F dX0_fastest_25 rfl ?_
        obtain ⟨v6, e_v6, h⟩ := bnd h
        refine G_getR F okX0 (f := 0) (by decide) q328 rfl dX0_fastest_26 e_v6 ?_
        refine G_iload F dX0_fastest_29 rfl ?_
        obtain ⟨v7, e_v7, h⟩ := bnd h
        refine G_aald F (t := 5) (by decide) dX0_fastest_31 e_v7 ?_
        refine G_iload_n F dX0_fastest_32 rfl ?_
        obtain ⟨v8, e_v8, h⟩ := bnd h
        obtain ⟨hc_v8, e_v8⟩ := hp_on_of e_v8
        refine G_callVv F (As := [.inl a1]) (st := []) (metX6_leaves X e_v8) hc_v8 rfl rfl (lw_V q1067 q1068 q1069 q108 q1070) hdfX6_leaves ⟨by omega, by decide⟩ rfl (Nat.le_of_ble_eq_true rfl) ⟨by omega, by omega⟩ dX0_fastest_33 ?_
        refine G_if_eq F (tgt := 73) dX0_fastest_36 (by decide) (fun c9 => ?_) (fun c9 => ?_)
        · have h := itt c9 h
          refine G_iinc F (v := (s4_3 + (1 : Int32))) (L2 := [some (.inr a0), some (.inl a1), some (.inl a2), some (.inl s3_3), some (.inl (s4_3 + (1 : Int32)))]) dX0_fastest_73 (by decide) rfl rfl rfl ?_
          refine G_goto F (tgt := 16) dX0_fastest_76 (by decide) ?_
          cases h
          exact G_sub F (L2 := [some (.inr a0), some (.inl a1), some (.inl a2), some (.inl s3_3), some (.inl (s4_3 + (1 : Int32)))]) ⟨rfl, ⟨rfl, ⟨rfl, ⟨rfl, ⟨rfl, trivial⟩⟩⟩⟩⟩ (hP3 _ rfl)
        · have h := itf c9 h
          refine G_iload_n F dX0_fastest_39 rfl ?_
          refine G_aload_n F dX0_fastest_40 rfl ?_
          refine G_iload_n F dX0_fastest_41 rfl ?_
          refine G_iload_n F dX0_fastest_42 rfl ?_
          refine G_aload_n F dX0_fastest_43 rfl ?_
          obtain ⟨v10, e_v10, h⟩ := bnd h
          refine G_getR F okX0 (f := 0) (by decide) q328 rfl dX0_fastest_44 e_v10 ?_
          refine G_iload F dX0_fastest_47 rfl ?_
          obtain ⟨v11, e_v11, h⟩ := bnd h
          refine G_aald F (t := 5) (by decide) dX0_fastest_49 e_v11 ?_
          refine G_iload_n F dX0_fastest_50 rfl ?_
          obtain ⟨v12, e_v12, h⟩ := bnd h
          obtain ⟨hc_v12, e_v12⟩ := hp_on_of e_v12
          refine G_callVv F (As := [.inl a1]) (st := [.inl a2, .inl a1, .inr a0, .inl s3_3]) (metX6_minuteAt X e_v12) hc_v12 rfl rfl (lw_V q1072 q1073 q1074 q108 q1075) hdfX6_minuteAt ⟨by omega, by decide⟩ rfl (Nat.le_of_ble_eq_true rfl) ⟨by omega, by omega⟩ dX0_fastest_51 ?_
          obtain ⟨⟨v13, m14⟩, e_v13, h⟩ := bnd h
          obtain ⟨hc_v13, e_v13⟩ := hp_on_of e_v13
          refine G_callVv F (As := [.inl a1, .inl a2, .inl v12]) (st := [.inl s3_3]) (metX0_arrivalFrom X e_v13) hc_v13 rfl rfl (lw_V q1076 q1078 qs31 q102 q1079) hdfX0_arrivalFrom ⟨by omega, by decide⟩ rfl (Nat.le_of_ble_eq_true rfl) ⟨by omega, by omega⟩ dX0_fastest_54 ?_
          refine G_aload_n F dX0_fastest_57 rfl ?_
          obtain ⟨v15, e_v15, h⟩ := bnd h
          refine G_getR F okX0 (f := 0) (by decide) q328 rfl dX0_fastest_58 e_v15 ?_
          refine G_iload F dX0_fastest_61 rfl ?_
          obtain ⟨v16, e_v16, h⟩ := bnd h
          refine G_aald F (t := 5) (by decide) dX0_fastest_63 e_v16 ?_
          refine G_iload_n F dX0_fastest_64 rfl ?_
          obtain ⟨v17, e_v17, h⟩ := bnd h
          obtain ⟨hc_v17, e_v17⟩ := hp_on_of e_v17
          refine G_callVv F (As := [.inl a1]) (st := [.inl v13, .inl s3_3]) (metX6_minuteAt X e_v17) hc_v17 rfl rfl (lw_V q1072 q1073 q1074 q108 q1075) hdfX6_minuteAt ⟨by omega, by decide⟩ rfl (Nat.le_of_ble_eq_true rfl) ⟨by omega, by omega⟩ dX0_fastest_65 ?_
          refine G_isub F dX0_fastest_68 ?_
          refine G_mmin F q990 q517 q113 q518 (by omega) (Nat.le_of_ble_eq_true rfl) ⟨by omega, by omega⟩ dX0_fastest_69 ?_
          refine G_istore_n F (L2 := [some (.inr a0), some (.inl a1), some (.inl a2), some (.inl (jmin s3_3 (v13 - v17))), some (.inl s4_3)]) dX0_fastest_72 (by decide) rfl ?_
          refine G_iinc F (v := (s4_3 + (1 : Int32))) (L2 := [some (.inr a0), some (.inl a1), some (.inl a2), some (.inl (jmin s3_3 (v13 - v17))), some (.inl (s4_3 + (1 : Int32)))]) dX0_fastest_73 (by decide) rfl rfl rfl ?_
          refine G_goto F (tgt := 16) dX0_fastest_76 (by decide) ?_
          cases h
          exact G_sub F (L2 := [some (.inr a0), some (.inl a1), some (.inl a2), some (.inl (jmin s3_3 (v13 - v17))), some (.inl (s4_3 + (1 : Int32)))]) ⟨rfl, ⟨rfl, ⟨rfl, ⟨rfl, ⟨rfl, trivial⟩⟩⟩⟩⟩ (hP3 _ rfl)
    have hI := iter_ok (fun (s : (Int32 × Int32 × Hp)) => match s with | (s3_3, s4_3, m3) => G X cx 5 (Qm X cx (some (.inl rv)) m_ nx 0 0) (0) (0) m3 (nx) [some (.inr a0), some (.inl a1), some (.inl a2), some (.inl s3_3), some (.inl s4_3)] [] 16) (fun q => q = r3) KB3 _ _ _ hr3 rfl
    exact G_sub F (L2 := [some (.inr a0), some (.inl a1), some (.inl a2), some (.inl (268435456 : Int32)), some (.inl (0 : Int32))]) ⟨rfl, ⟨rfl, ⟨rfl, ⟨rfl, ⟨rfl, trivial⟩⟩⟩⟩⟩ hI
  · have h := itt c2 h
    refine G_iconst F (v := (-1 : Int32)) dX0_fastest_8 (by decide) ?_
    cases h
    exact G_iret F rfl (Nat.le_refl _) (Nat.le_refl _) rfl dX0_fastest_9

theorem metX0_laysBest (X : Gx) {m : Hp} {nx : Nat} {a0 : Option Nat} {a1 : Int32} {a2 : Int32} {rv : Int32} {m_ : Hp} (h : fX0_laysBest m a0 a1 a2 = some (rv, m_)) : Con X (5) yX0_laysBest cX0_laysBest 8 ((Option.some FieldType.int)) [.inr a0, .inl a1, .inl a2] m nx (some (.inl rv)) m_ 0 0 := by
  refine Con.of (own := RX0) (nm := "laysBest") (L := [some (.inr a0), some (.inl a1), some (.inl a2), none, none, none, none, none]) (by decide +kernel) rfl rfl (Nat.le_of_ble_eq_true rfl) (ent_of 5 rfl) ?_
  intro cx F
  refine G_iconst F (v := (0 : Int32)) dX0_laysBest_0 (by decide) ?_
  refine G_istore_n F (L2 := [some (.inr a0), some (.inl a1), some (.inl a2), some (.inl (0 : Int32)), none, none, none, none]) dX0_laysBest_1 (by decide) rfl ?_
  refine G_ldc F q1058 dX0_laysBest_2 ?_
  refine G_istore F (L2 := [some (.inr a0), some (.inl a1), some (.inl a2), some (.inl (0 : Int32)), some (.inl (268435456 : Int32)), none, none, none]) dX0_laysBest_4 (by decide) rfl ?_
  refine G_sipush F (v := (1439 : Int32)) dX0_laysBest_6 (by decide) ?_
  refine G_istore F (L2 := [some (.inr a0), some (.inl a1), some (.inl a2), some (.inl (0 : Int32)), some (.inl (268435456 : Int32)), some (.inl (1439 : Int32)), none, none]) dX0_laysBest_9 (by decide) rfl ?_
  obtain ⟨r1, hr1, h⟩ := bnd h
  have KE1 : ∀ (v26 : Int32) (m27 : Hp), (v26, m27) = r1 → G X cx 8 (Qm X cx (some (.inl rv)) m_ nx 0 0) (0) (0) m27 (nx) [none, none, none, some (.inl v26), none, none, none, none] [] 133 := by
    intro v26 m27 hq
    subst hq
    try dsimp only at h
    refine G_iload_n F dX0_laysBest_133 rfl ?_
    cases h
    exact G_iret F rfl (Nat.le_refl _) (Nat.le_refl _) rfl dX0_laysBest_134
  have KB1 : ∀ s o1, fX0_laysBest_L11 a0 a1 a2 s = some o1 → (∀ s', o1 = Sum.inl s' → (fun (s : (Int32 × Int32 × Int32 × Hp)) => match s with | (s3_1, s4_1, s5_1, m1) => G X cx 8 (Qm X cx (some (.inl rv)) m_ nx 0 0) (0) (0) m1 (nx) [some (.inr a0), some (.inl a1), some (.inl a2), some (.inl s3_1), some (.inl s4_1), some (.inl s5_1), none, none] [] 11) s') → (∀ q, o1 = Sum.inr q → q = r1) → (fun (s : (Int32 × Int32 × Int32 × Hp)) => match s with | (s3_1, s4_1, s5_1, m1) => G X cx 8 (Qm X cx (some (.inl rv)) m_ nx 0 0) (0) (0) m1 (nx) [some (.inr a0), some (.inl a1), some (.inl a2), some (.inl s3_1), some (.inl s4_1), some (.inl s5_1), none, none] [] 11) s := by
    intro s o1 h hP1 hE1
    obtain ⟨s3_1, s4_1, s5_1, m1⟩ := s
    try dsimp only at hP1 hE1 ⊢
    refine G_iload F dX0_laysBest_11 rfl ?_
    refine G_if_lt F (tgt := 133) dX0_laysBest_13 (by decide) (fun c2 => ?_) (fun c2 => ?_)
    · have h := itt c2 h
      cases h
      exact G_sub F (L2 := [none, none, none, some (.inl s3_1), none, none, none, none]) ⟨rfl, trivial⟩ (KE1 _ _ (hE1 _ rfl))
    · have h := itf c2 h
      refine G_iconst F (v := (0 : Int32)) dX0_laysBest_16 (by decide) ?_
      refine G_istore F (L2 := [some (.inr a0), some (.inl a1), some (.inl a2), some (.inl s3_1), some (.inl s4_1), some (.inl s5_1), some (.inl (0 : Int32)), none]) dX0_laysBest_17 (by decide) rfl ?_
      refine G_iconst F (v := (0 : Int32)) dX0_laysBest_19 (by decide) ?_
      refine G_istore F (L2 := [some (.inr a0), some (.inl a1), some (.inl a2), some (.inl s3_1), some (.inl s4_1), some (.inl s5_1), some (.inl (0 : Int32)), some (.inl (0 : Int32))]) dX0_laysBest_20 (by decide) rfl ?_
      obtain ⟨r3, hr3, h⟩ := bnd h
      have KE3 : ∀ (v15 : Int32), v15 = r3 → G X cx 8 (Qm X cx (some (.inl rv)) m_ nx 0 0) (0) (0) m1 (nx) [some (.inr a0), some (.inl a1), some (.inl a2), some (.inl s3_1), some (.inl s4_1), some (.inl s5_1), some (.inl v15), none] [] 79 := by
        intro v15 hq
        subst hq
        try dsimp only at h
        refine G_iload F dX0_laysBest_79 rfl ?_
        refine G_if_eq F (tgt := 127) dX0_laysBest_81 (by decide) (fun c16 => ?_) (fun c16 => ?_)
        · have h := itt c16 h
          refine G_iinc F (v := (s5_1 + (-1 : Int32))) (L2 := [some (.inr a0), some (.inl a1), some (.inl a2), some (.inl s3_1), some (.inl s4_1), some (.inl (s5_1 + (-1 : Int32))), some (.inl v15), none]) dX0_laysBest_127 (by decide) rfl rfl rfl ?_
          refine G_goto F (tgt := 11) dX0_laysBest_130 (by decide) ?_
          cases h
          exact G_sub F (L2 := [some (.inr a0), some (.inl a1), some (.inl a2), some (.inl s3_1), some (.inl s4_1), some (.inl (s5_1 + (-1 : Int32))), none, none]) ⟨rfl, ⟨rfl, ⟨rfl, ⟨rfl, ⟨rfl, ⟨rfl, trivial⟩⟩⟩⟩⟩⟩ (hP1 _ rfl)
        · have h := itf c16 h
          refine G_aload_n F dX0_laysBest_84 rfl ?_
          refine G_iload_n F dX0_laysBest_85 rfl ?_
          refine G_iload_n F dX0_laysBest_86 rfl ?_
          refine G_iload F dX0_laysBest_87 rfl ?_
          obtain ⟨⟨v17, m18⟩, e_v17, h⟩ := bnd h
          obtain ⟨hc_v17, e_v17⟩ := hp_on_of e_v17
          refine G_callVv F (As := [.inl a1, .inl a2, .inl s5_1]) (st := []) (metX0_arrivalFrom X e_v17) hc_v17 rfl rfl (lw_V q1076 q1078 qs31 q102 q1079) hdfX0_arrivalFrom ⟨by omega, by decide⟩ rfl (Nat.le_of_ble_eq_true rfl) ⟨by omega, by omega⟩ dX0_laysBest_89 ?_
          refine G_iload F dX0_laysBest_92 rfl ?_
          refine G_icmp_lt F (tgt := 100) dX0_laysBest_94 (by decide) (fun c19 => ?_) (fun c19 => ?_)
          · have h := itt c19 h
            refine G_aload_n F dX0_laysBest_100 rfl ?_
            obtain ⟨v20, e_v20, h⟩ := bnd h
            refine G_getR F okX0 (f := 14) (by decide) q352 rfl dX0_laysBest_101 e_v20 ?_
            refine G_iload_n F dX0_laysBest_104 rfl ?_
            obtain ⟨v21, e_v21, h⟩ := bnd h
            refine G_iald F dX0_laysBest_105 e_v21 ?_
            refine G_istore F (L2 := [some (.inr a0), some (.inl a1), some (.inl a2), some (.inl s3_1), some (.inl v21), some (.inl s5_1), some (.inl v15), none]) dX0_laysBest_106 (by decide) rfl ?_
            refine G_aload_n F dX0_laysBest_108 rfl ?_
            obtain ⟨v22, e_v22, h⟩ := bnd h
            refine G_getR F okX0 (f := 16) (by decide) q354 rfl dX0_laysBest_109 e_v22 ?_
            refine G_iload_n F dX0_laysBest_112 rfl ?_
            refine G_iload F dX0_laysBest_113 rfl ?_
            obtain ⟨m23, e_m23, h⟩ := bnd h
            refine G_iast F dX0_laysBest_115 e_m23 ?_
            refine G_aload_n F dX0_laysBest_116 rfl ?_
            obtain ⟨v24, e_v24, h⟩ := bnd h
            refine G_getR F okX0 (f := 17) (by decide) q355 rfl dX0_laysBest_117 e_v24 ?_
            refine G_iload_n F dX0_laysBest_120 rfl ?_
            refine G_iload F dX0_laysBest_121 rfl ?_
            obtain ⟨m25, e_m25, h⟩ := bnd h
            refine G_iast F dX0_laysBest_123 e_m25 ?_
            refine G_iinc F (v := (s3_1 + (1 : Int32))) (L2 := [some (.inr a0), some (.inl a1), some (.inl a2), some (.inl (s3_1 + (1 : Int32))), some (.inl v21), some (.inl s5_1), some (.inl v15), none]) dX0_laysBest_124 (by decide) rfl rfl rfl ?_
            refine G_iinc F (v := (s5_1 + (-1 : Int32))) (L2 := [some (.inr a0), some (.inl a1), some (.inl a2), some (.inl (s3_1 + (1 : Int32))), some (.inl v21), some (.inl (s5_1 + (-1 : Int32))), some (.inl v15), none]) dX0_laysBest_127 (by decide) rfl rfl rfl ?_
            refine G_goto F (tgt := 11) dX0_laysBest_130 (by decide) ?_
            cases h
            exact G_sub F (L2 := [some (.inr a0), some (.inl a1), some (.inl a2), some (.inl (s3_1 + (1 : Int32))), some (.inl v21), some (.inl (s5_1 + (-1 : Int32))), none, none]) ⟨rfl, ⟨rfl, ⟨rfl, ⟨rfl, ⟨rfl, ⟨rfl, trivial⟩⟩⟩⟩⟩⟩ (hP1 _ rfl)
          · have h := itf c19 h
            refine G_goto F (tgt := 127) dX0_laysBest_97 (by decide) ?_
            refine G_iinc F (v := (s5_1 + (-1 : Int32))) (L2 := [some (.inr a0), some (.inl a1), some (.inl a2), some (.inl s3_1), some (.inl s4_1), some (.inl (s5_1 + (-1 : Int32))), some (.inl v15), none]) dX0_laysBest_127 (by decide) rfl rfl rfl ?_
            refine G_goto F (tgt := 11) dX0_laysBest_130 (by decide) ?_
            cases h
            exact G_sub F (L2 := [some (.inr a0), some (.inl a1), some (.inl a2), some (.inl s3_1), some (.inl s4_1), some (.inl (s5_1 + (-1 : Int32))), none, none]) ⟨rfl, ⟨rfl, ⟨rfl, ⟨rfl, ⟨rfl, ⟨rfl, trivial⟩⟩⟩⟩⟩⟩ (hP1 _ rfl)
      have KB3 : ∀ s o3, fX0_laysBest_L22 m1 a0 a1 a2 s3_1 s4_1 s5_1 s = some o3 → (∀ s', o3 = Sum.inl s' → (fun (s : (Int32 × Int32)) => match s with | (s6_3, s7_3) => G X cx 8 (Qm X cx (some (.inl rv)) m_ nx 0 0) (0) (0) m1 (nx) [some (.inr a0), some (.inl a1), some (.inl a2), some (.inl s3_1), some (.inl s4_1), some (.inl s5_1), some (.inl s6_3), some (.inl s7_3)] [] 22) s') → (∀ q, o3 = Sum.inr q → q = r3) → (fun (s : (Int32 × Int32)) => match s with | (s6_3, s7_3) => G X cx 8 (Qm X cx (some (.inl rv)) m_ nx 0 0) (0) (0) m1 (nx) [some (.inr a0), some (.inl a1), some (.inl a2), some (.inl s3_1), some (.inl s4_1), some (.inl s5_1), some (.inl s6_3), some (.inl s7_3)] [] 22) s := by
        intro s o3 h hP3 hE3
        obtain ⟨s6_3, s7_3⟩ := s
        try dsimp only at hP3 hE3 ⊢
        refine G_iload F dX0_laysBest_22 rfl ?_
        refine G_aload_n F dX0_laysBest_24 rfl ?_
        obtain ⟨v4, e_v4, h⟩ := bnd h
        refine G_getI F okX0 (f := 3) (by decide) q335 rfl dX0_laysBest_25 e_v4 ?_
        refine G_icmp_ge F (tgt := 79) dX0_laysBest_28 (by decide) (fun c5 => ?_) (fun c5 => ?_)
        · have h := itt c5 h
          cases h
          exact G_sub F (L2 := [some (.inr a0), some (.inl a1), some (.inl a2), some (.inl s3_1), some (.inl s4_1), some (.inl s5_1), some (.inl s6_3), none]) ⟨rfl, ⟨rfl, ⟨rfl, ⟨rfl, ⟨rfl, ⟨rfl, ⟨rfl, trivial⟩⟩⟩⟩⟩⟩⟩ (KE3 _ (hE3 _ rfl))
        · have h := itf c5 h
          refine G_iload F dX0_laysBest_31 rfl ?_
          refine G_if_ne F (tgt := 66) dX0_laysBest_33 (by decide) (fun c6 => ?_) (fun c6 => ?_)
          · have h := itf c6 h
            refine G_iconst F (v := (1 : Int32)) dX0_laysBest_66 (by decide) ?_
            refine G_goto F (tgt := 71) dX0_laysBest_67 (by decide) ?_
            refine G_istore F (L2 := [some (.inr a0), some (.inl a1), some (.inl a2), some (.inl s3_1), some (.inl s4_1), some (.inl s5_1), some (.inl (1 : Int32)), some (.inl s7_3)]) dX0_laysBest_71 (by decide) rfl ?_
            refine G_iinc F (v := (s7_3 + (1 : Int32))) (L2 := [some (.inr a0), some (.inl a1), some (.inl a2), some (.inl s3_1), some (.inl s4_1), some (.inl s5_1), some (.inl (1 : Int32)), some (.inl (s7_3 + (1 : Int32)))]) dX0_laysBest_73 (by decide) rfl rfl rfl ?_
            refine G_goto F (tgt := 22) dX0_laysBest_76 (by decide) ?_
            cases h
            exact G_sub F (L2 := [some (.inr a0), some (.inl a1), some (.inl a2), some (.inl s3_1), some (.inl s4_1), some (.inl s5_1), some (.inl (1 : Int32)), some (.inl (s7_3 + (1 : Int32)))]) ⟨rfl, ⟨rfl, ⟨rfl, ⟨rfl, ⟨rfl, ⟨rfl, ⟨rfl, ⟨rfl, trivial⟩⟩⟩⟩⟩⟩⟩⟩ (hP3 _ rfl)
          · have h := itt c6 h
            refine G_aload_n F dX0_laysBest_36 rfl ?_
            obtain ⟨v7, e_v7, h⟩ := bnd h
            refine G_getR F okX0 (f := 0) (by decide) q328 rfl dX0_laysBest_37 e_v7 ?_
            refine G_iload F dX0_laysBest_40 rfl ?_
            obtain ⟨v8, e_v8, h⟩ := bnd h
            refine G_aald F (t := 5) (by decide) dX0_laysBest_42 e_v8 ?_
            refine G_iload_n F dX0_laysBest_43 rfl ?_
            obtain ⟨v9, e_v9, h⟩ := bnd h
            obtain ⟨hc_v9, e_v9⟩ := hp_on_of e_v9
            refine G_callVv F (As := [.inl a1]) (st := []) (metX6_leaves X e_v9) hc_v9 rfl rfl (lw_V q1067 q1068 q1069 q108 q1070) hdfX6_leaves ⟨by omega, by decide⟩ rfl (Nat.le_of_ble_eq_true rfl) ⟨by omega, by omega⟩ dX0_laysBest_44 ?_
            refine G_if_eq F (tgt := 70) dX0_laysBest_47 (by decide) (fun c10 => ?_) (fun c10 => ?_)
            · have h := itt c10 h
              refine G_iconst F (v := (0 : Int32)) dX0_laysBest_70 (by decide) ?_
              refine G_istore F (L2 := [some (.inr a0), some (.inl a1), some (.inl a2), some (.inl s3_1), some (.inl s4_1), some (.inl s5_1), some (.inl (0 : Int32)), some (.inl s7_3)]) dX0_laysBest_71 (by decide) rfl ?_
              refine G_iinc F (v := (s7_3 + (1 : Int32))) (L2 := [some (.inr a0), some (.inl a1), some (.inl a2), some (.inl s3_1), some (.inl s4_1), some (.inl s5_1), some (.inl (0 : Int32)), some (.inl (s7_3 + (1 : Int32)))]) dX0_laysBest_73 (by decide) rfl rfl rfl ?_
              refine G_goto F (tgt := 22) dX0_laysBest_76 (by decide) ?_
              cases h
              exact G_sub F (L2 := [some (.inr a0), some (.inl a1), some (.inl a2), some (.inl s3_1), some (.inl s4_1), some (.inl s5_1), some (.inl (0 : Int32)), some (.inl (s7_3 + (1 : Int32)))]) ⟨rfl, ⟨rfl, ⟨rfl, ⟨rfl, ⟨rfl, ⟨rfl, ⟨rfl, ⟨rfl, trivial⟩⟩⟩⟩⟩⟩⟩⟩ (hP3 _ rfl)
            · have h := itf c10 h
              refine G_aload_n F dX0_laysBest_50 rfl ?_
              obtain ⟨v11, e_v11, h⟩ := bnd h
              refine G_getR F okX0 (f := 0) (by decide) q328 rfl dX0_laysBest_51 e_v11 ?_
              refine G_iload F dX0_laysBest_54 rfl ?_
              obtain ⟨v12, e_v12, h⟩ := bnd h
              refine G_aald F (t := 5) (by decide) dX0_laysBest_56 e_v12 ?_
              refine G_iload_n F dX0_laysBest_57 rfl ?_
              obtain ⟨v13, e_v13, h⟩ := bnd h
              obtain ⟨hc_v13, e_v13⟩ := hp_on_of e_v13
              refine G_callVv F (As := [.inl a1]) (st := []) (metX6_minuteAt X e_v13) hc_v13 rfl rfl (lw_V q1072 q1073 q1074 q108 q1075) hdfX6_minuteAt ⟨by omega, by decide⟩ rfl (Nat.le_of_ble_eq_true rfl) ⟨by omega, by omega⟩ dX0_laysBest_58 ?_
              refine G_iload F dX0_laysBest_61 rfl ?_
              refine G_icmp_ne F (tgt := 70) dX0_laysBest_63 (by decide) (fun c14 => ?_) (fun c14 => ?_)
              · have h := itf c14 h
                refine G_iconst F (v := (0 : Int32)) dX0_laysBest_70 (by decide) ?_
                refine G_istore F (L2 := [some (.inr a0), some (.inl a1), some (.inl a2), some (.inl s3_1), some (.inl s4_1), some (.inl s5_1), some (.inl (0 : Int32)), some (.inl s7_3)]) dX0_laysBest_71 (by decide) rfl ?_
                refine G_iinc F (v := (s7_3 + (1 : Int32))) (L2 := [some (.inr a0), some (.inl a1), some (.inl a2), some (.inl s3_1), some (.inl s4_1), some (.inl s5_1), some (.inl (0 : Int32)), some (.inl (s7_3 + (1 : Int32)))]) dX0_laysBest_73 (by decide) rfl rfl rfl ?_
                refine G_goto F (tgt := 22) dX0_laysBest_76 (by decide) ?_
                cases h
                exact G_sub F (L2 := [some (.inr a0), some (.inl a1), some (.inl a2), some (.inl s3_1), some (.inl s4_1), some (.inl s5_1), some (.inl (0 : Int32)), some (.inl (s7_3 + (1 : Int32)))]) ⟨rfl, ⟨rfl, ⟨rfl, ⟨rfl, ⟨rfl, ⟨rfl, ⟨rfl, ⟨rfl, trivial⟩⟩⟩⟩⟩⟩⟩⟩ (hP3 _ rfl)
              · have h := itt c14 h
                refine G_iconst F (v := (1 : Int32)) dX0_laysBest_66 (by decide) ?_
                refine G_goto F (tgt := 71) dX0_laysBest_67 (by decide) ?_
                refine G_istore F (L2 := [some (.inr a0), some (.inl a1), some (.inl a2), some (.inl s3_1), some (.inl s4_1), some (.inl s5_1), some (.inl (1 : Int32)), some (.inl s7_3)]) dX0_laysBest_71 (by decide) rfl ?_
                refine G_iinc F (v := (s7_3 + (1 : Int32))) (L2 := [some (.inr a0), some (.inl a1), some (.inl a2), some (.inl s3_1), some (.inl s4_1), some (.inl s5_1), some (.inl (1 : Int32)), some (.inl (s7_3 + (1 : Int32)))]) dX0_laysBest_73 (by decide) rfl rfl rfl ?_
                refine G_goto F (tgt := 22) dX0_laysBest_76 (by decide) ?_
                cases h
                exact G_sub F (L2 := [some (.inr a0), some (.inl a1), some (.inl a2), some (.inl s3_1), some (.inl s4_1), some (.inl s5_1), some (.inl (1 : Int32)), some (.inl (s7_3 + (1 : Int32)))]) ⟨rfl, ⟨rfl, ⟨rfl, ⟨rfl, ⟨rfl, ⟨rfl, ⟨rfl, ⟨rfl, trivial⟩⟩⟩⟩⟩⟩⟩⟩ (hP3 _ rfl)
      have hI := iter_ok (fun (s : (Int32 × Int32)) => match s with | (s6_3, s7_3) => G X cx 8 (Qm X cx (some (.inl rv)) m_ nx 0 0) (0) (0) m1 (nx) [some (.inr a0), some (.inl a1), some (.inl a2), some (.inl s3_1), some (.inl s4_1), some (.inl s5_1), some (.inl s6_3), some (.inl s7_3)] [] 22) (fun q => q = r3) KB3 _ _ _ hr3 rfl
      exact G_sub F (L2 := [some (.inr a0), some (.inl a1), some (.inl a2), some (.inl s3_1), some (.inl s4_1), some (.inl s5_1), some (.inl (0 : Int32)), some (.inl (0 : Int32))]) ⟨rfl, ⟨rfl, ⟨rfl, ⟨rfl, ⟨rfl, ⟨rfl, ⟨rfl, ⟨rfl, trivial⟩⟩⟩⟩⟩⟩⟩⟩ hI
  have hI := iter_ok (fun (s : (Int32 × Int32 × Int32 × Hp)) => match s with | (s3_1, s4_1, s5_1, m1) => G X cx 8 (Qm X cx (some (.inl rv)) m_ nx 0 0) (0) (0) m1 (nx) [some (.inr a0), some (.inl a1), some (.inl a2), some (.inl s3_1), some (.inl s4_1), some (.inl s5_1), none, none] [] 11) (fun q => q = r1) KB1 _ _ _ hr1 rfl
  exact G_sub F (L2 := [some (.inr a0), some (.inl a1), some (.inl a2), some (.inl (0 : Int32)), some (.inl (268435456 : Int32)), some (.inl (1439 : Int32)), none, none]) ⟨rfl, ⟨rfl, ⟨rfl, ⟨rfl, ⟨rfl, ⟨rfl, trivial⟩⟩⟩⟩⟩⟩ hI

theorem metX0_best (X : Gx) {m : Hp} {nx : Nat} {a0 : Option Nat} {a1 : Int32} {a2 : Int32} {a3 : Int32} {rv : Int32} {m_ : Hp} (h : fX0_best m a0 a1 a2 a3 = some (rv, m_)) : Con X (6) yX0_best cX0_best 6 ((Option.some FieldType.int)) [.inr a0, .inl a1, .inl a2, .inl a3] m nx (some (.inl rv)) m_ 0 0 := by
  refine Con.of (own := RX0) (nm := "best") (L := [some (.inr a0), some (.inl a1), some (.inl a2), some (.inl a3), none, none]) (by decide +kernel) rfl rfl (Nat.le_of_ble_eq_true rfl) (ent_of 2 rfl) ?_
  intro cx F
  refine G_iload_n F dX0_best_0 rfl ?_
  refine G_iload_n F dX0_best_1 rfl ?_
  obtain ⟨v1, e_v1, h⟩ := bnd h
  refine G_callSv F (As := [.inl a1, .inl a2]) (st := []) (metX0_areTwo X e_v1) (lw_S q412 q413 q102 q414) hdfX0_areTwo ⟨by omega, by decide⟩ rfl (Nat.le_of_ble_eq_true rfl) ⟨by omega, by omega⟩ dX0_best_2 ?_
  refine G_if_eq F (tgt := 40) dX0_best_5 (by decide) (fun c2 => ?_) (fun c2 => ?_)
  · have h := itt c2 h
    refine G_iconst F (v := (-1 : Int32)) dX0_best_40 (by decide) ?_
    cases h
    exact G_iret F rfl (Nat.le_refl _) (Nat.le_refl _) rfl dX0_best_41
  · have h := itf c2 h
    refine G_iload_n F dX0_best_8 rfl ?_
    refine G_bipush F (v := (100 : Int32)) dX0_best_9 (by decide) ?_
    obtain ⟨p3, hp3, h⟩ := bnd h
    have K3 : ∀ (_ : Unit), Sum.inl () = p3 → G X cx 6 (Qm X cx (some (.inl rv)) m_ nx 0 0) (0) (0) m (nx) [some (.inr a0), some (.inl a1), some (.inl a2), some (.inl a3), none, none] [] 42 := by
      intro _ hq
      subst hq
      try dsimp only at h
      refine G_aload_n F dX0_best_42 rfl ?_
      refine G_iload_n F dX0_best_43 rfl ?_
      refine G_iload_n F dX0_best_44 rfl ?_
      obtain ⟨⟨v4, m5⟩, e_v4, h⟩ := bnd h
      obtain ⟨hc_v4, e_v4⟩ := hp_on_of e_v4
      refine G_callVv F (As := [.inl a1, .inl a2]) (st := []) (metX0_laysBest X e_v4) hc_v4 rfl rfl (lw_V q1088 q1090 qs32 q102 q1091) hdfX0_laysBest ⟨by omega, by decide⟩ rfl (Nat.le_of_ble_eq_true rfl) ⟨by omega, by omega⟩ dX0_best_45 ?_
      refine G_istore F (L2 := [some (.inr a0), some (.inl a1), some (.inl a2), some (.inl a3), some (.inl v4), none]) dX0_best_48 (by decide) rfl ?_
      refine G_iload_n F dX0_best_50 rfl ?_
      refine G_bipush F (v := (100 : Int32)) dX0_best_51 (by decide) ?_
      refine G_icmp_ne F (tgt := 59) dX0_best_53 (by decide) (fun c6 => ?_) (fun c6 => ?_)
      · have h := itf c6 h
        refine G_iload F dX0_best_59 rfl ?_
        refine G_iconst F (v := (1 : Int32)) dX0_best_61 (by decide) ?_
        refine G_isub F dX0_best_62 ?_
        refine G_iload_n F dX0_best_63 rfl ?_
        refine G_sipush F (v := (1000 : Int32)) dX0_best_64 (by decide) ?_
        refine G_irem F (by decide) dX0_best_67 ?_
        refine G_isub F dX0_best_68 ?_
        refine G_istore F (L2 := [some (.inr a0), some (.inl a1), some (.inl a2), some (.inl a3), some (.inl v4), some (.inl ((v4 - (1 : Int32)) - (jrem a3 (1000 : Int32))))]) dX0_best_69 (by decide) rfl ?_
        refine G_iload F dX0_best_71 rfl ?_
        refine G_if_ge F (tgt := 81) dX0_best_73 (by decide) (fun c7 => ?_) (fun c7 => ?_)
        · have h := itt c7 h
          refine G_iload_n F dX0_best_81 rfl ?_
          refine G_sipush F (v := (2000 : Int32)) dX0_best_82 (by decide) ?_
          refine G_icmp_ge F (tgt := 98) dX0_best_85 (by decide) (fun c8 => ?_) (fun c8 => ?_)
          · have h := itt c8 h
            refine G_aload_n F dX0_best_98 rfl ?_
            obtain ⟨v9, e_v9, h⟩ := bnd h
            refine G_getR F okX0 (f := 17) (by decide) q355 rfl dX0_best_99 e_v9 ?_
            refine G_iload F dX0_best_102 rfl ?_
            obtain ⟨v10, e_v10, h⟩ := bnd h
            refine G_iald F dX0_best_104 e_v10 ?_
            cases h
            exact G_iret F rfl (Nat.le_refl _) (Nat.le_refl _) rfl dX0_best_105
          · have h := itf c8 h
            refine G_aload_n F dX0_best_88 rfl ?_
            obtain ⟨v11, e_v11, h⟩ := bnd h
            refine G_getR F okX0 (f := 16) (by decide) q354 rfl dX0_best_89 e_v11 ?_
            refine G_iload F dX0_best_92 rfl ?_
            obtain ⟨v12, e_v12, h⟩ := bnd h
            refine G_iald F dX0_best_94 e_v12 ?_
            refine G_goto F (tgt := 105) dX0_best_95 (by decide) ?_
            cases h
            exact G_iret F rfl (Nat.le_refl _) (Nat.le_refl _) rfl dX0_best_105
        · have h := itf c7 h
          refine G_bipush F (v := (-4 : Int32)) dX0_best_76 (by decide) ?_
          refine G_goto F (tgt := 105) dX0_best_78 (by decide) ?_
          cases h
          exact G_iret F rfl (Nat.le_refl _) (Nat.le_refl _) rfl dX0_best_105
      · have h := itt c6 h
        refine G_iload F dX0_best_56 rfl ?_
        cases h
        exact G_iret F rfl (Nat.le_refl _) (Nat.le_refl _) rfl dX0_best_58
    have K3o : ∀ o, Sum.inr o = p3 → some o = some (rv, m_) := by
      intro o hq
      subst hq
      exact h
    have h := hp3
    clear hp3
    refine G_icmp_eq F (tgt := 42) dX0_best_11 (by decide) (fun c13 => ?_) (fun c13 => ?_)
    · have h := itt c13 h
      have hq_ := Option.some.inj h
      exact G_sub F (L2 := [some (.inr a0), some (.inl a1), some (.inl a2), some (.inl a3), none, none]) ⟨rfl, ⟨rfl, ⟨rfl, ⟨rfl, trivial⟩⟩⟩⟩ (K3 () hq_)
    · have h := itf c13 h
      refine G_iload_n F dX0_best_14 rfl ?_
      refine G_sipush F (v := (1000 : Int32)) dX0_best_15 (by decide) ?_
      refine G_isub F dX0_best_18 ?_
      refine G_bipush F (v := (48 : Int32)) dX0_best_19 (by decide) ?_
      obtain ⟨v14, e_v14, h⟩ := bnd h
      refine G_callSv F (As := [.inl (a3 - (1000 : Int32)), .inl (48 : Int32)]) (st := []) (metX0_in X e_v14) (lw_S q409 q410 q102 q411) hdfX0_in ⟨by omega, by decide⟩ rfl (Nat.le_of_ble_eq_true rfl) ⟨by omega, by omega⟩ dX0_best_21 ?_
      refine G_if_ne F (tgt := 42) dX0_best_24 (by decide) (fun c15 => ?_) (fun c15 => ?_)
      · have h := itf c15 h
        have hq_ := Option.some.inj h
        exact G_sub F (L2 := [some (.inr a0), some (.inl a1), some (.inl a2), some (.inl a3), none, none]) ⟨rfl, ⟨rfl, ⟨rfl, ⟨rfl, trivial⟩⟩⟩⟩ (K3 () hq_)
      · have h := itt c15 h
        refine G_iload_n F dX0_best_27 rfl ?_
        refine G_sipush F (v := (2000 : Int32)) dX0_best_28 (by decide) ?_
        refine G_isub F dX0_best_31 ?_
        refine G_bipush F (v := (48 : Int32)) dX0_best_32 (by decide) ?_
        obtain ⟨v16, e_v16, h⟩ := bnd h
        refine G_callSv F (As := [.inl (a3 - (2000 : Int32)), .inl (48 : Int32)]) (st := []) (metX0_in X e_v16) (lw_S q409 q410 q102 q411) hdfX0_in ⟨by omega, by decide⟩ rfl (Nat.le_of_ble_eq_true rfl) ⟨by omega, by omega⟩ dX0_best_34 ?_
        refine G_if_ne F (tgt := 42) dX0_best_37 (by decide) (fun c17 => ?_) (fun c17 => ?_)
        · have h := itf c17 h
          have hq_ := Option.some.inj h
          exact G_sub F (L2 := [some (.inr a0), some (.inl a1), some (.inl a2), some (.inl a3), none, none]) ⟨rfl, ⟨rfl, ⟨rfl, ⟨rfl, trivial⟩⟩⟩⟩ (K3 () hq_)
        · have h := itt c17 h
          refine G_iconst F (v := (-1 : Int32)) dX0_best_40 (by decide) ?_
          have hq_ := Option.some.inj h
          have h := K3o _ hq_
          cases h
          exact G_iret F rfl (Nat.le_refl _) (Nat.le_refl _) rfl dX0_best_41
