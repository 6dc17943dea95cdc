set_option maxRecDepth 100000
set_option linter.unusedVariables false
theorem metX0_comeTo (X : Gx) {m : Hp} {nx : Nat} {a0 : Option Nat} {a1 : Int32} {a2 : Int32} {rv : Int32} {m_ : Hp} (h : fX0_comeTo m a0 a1 a2 = some (rv, m_)) : Con X (4) yX0_comeTo cX0_comeTo 6 ((Option.some FieldType.int)) [.inr a0, .inl a1, .inl a2] m nx (some (.inl rv)) m_ 0 0 := by
  refine Con.of (own := RX0) (nm := "comeTo") (L := [some (.inr a0), some (.inl a1), some (.inl a2), none, none, none]) (by decide +kernel) rfl rfl (Nat.le_of_ble_eq_true rfl) (ent_of 3 rfl) ?_
  intro cx F
  refine G_iload_n F dX0_comeTo_0 rfl ?_
  obtain ⟨v1, e_v1, h⟩ := bnd h
  refine G_callSv F (As := [.inl a1]) (st := []) (metX0_isStation X e_v1) (lw_S q415 q416 q102 q417) hdfX0_isStation ⟨by omega, by decide⟩ rfl (Nat.le_of_ble_eq_true rfl) ⟨by omega, by omega⟩ dX0_comeTo_1 ?_
  refine G_if_eq F (tgt := 17) dX0_comeTo_4 (by decide) (fun c2 => ?_) (fun c2 => ?_)
  · have h := itt c2 h
    refine G_iconst F (v := (-1 : Int32)) dX0_comeTo_17 (by decide) ?_
    cases h
    exact G_iret F rfl (Nat.le_refl _) (Nat.le_refl _) rfl dX0_comeTo_18
  · have h := itf c2 h
    refine G_iload_n F dX0_comeTo_7 rfl ?_
    refine G_sipush F (v := (1440 : Int32)) dX0_comeTo_8 (by decide) ?_
    obtain ⟨v3, e_v3, h⟩ := bnd h
    refine G_callSv F (As := [.inl a2, .inl (1440 : Int32)]) (st := []) (metX0_in X e_v3) (lw_S q409 q410 q102 q411) hdfX0_in ⟨by omega, by decide⟩ rfl (Nat.le_of_ble_eq_true rfl) ⟨by omega, by omega⟩ dX0_comeTo_11 ?_
    refine G_if_ne F (tgt := 19) dX0_comeTo_14 (by decide) (fun c4 => ?_) (fun c4 => ?_)
    · have h := itf c4 h
      refine G_aload_n F dX0_comeTo_19 rfl ?_
      refine G_iload_n F dX0_comeTo_20 rfl ?_
      refine G_iload_n F dX0_comeTo_21 rfl ?_
      refine G_iload_n F dX0_comeTo_22 rfl ?_
      obtain ⟨⟨v5, m6⟩, e_v5, h⟩ := bnd h
      obtain ⟨hc_v5, e_v5⟩ := hp_on_of e_v5
      refine G_callVv F (As := [.inl a1, .inl a2, .inl a1]) (st := []) (metX0_laysThere X e_v5) hc_v5 rfl rfl (lw_V q1054 q1056 qs29 q102 q1057) hdfX0_laysThere ⟨by omega, by decide⟩ rfl (Nat.le_of_ble_eq_true rfl) ⟨by omega, by omega⟩ dX0_comeTo_23 ?_
      refine G_istore_n F (L2 := [some (.inr a0), some (.inl a1), some (.inl a2), some (.inl v5), none, none]) dX0_comeTo_26 (by decide) rfl ?_
      refine G_iconst F (v := (0 : Int32)) dX0_comeTo_27 (by decide) ?_
      refine G_istore F (L2 := [some (.inr a0), some (.inl a1), some (.inl a2), some (.inl v5), some (.inl (0 : Int32)), none]) dX0_comeTo_28 (by decide) rfl ?_
      refine G_iconst F (v := (0 : Int32)) dX0_comeTo_30 (by decide) ?_
      refine G_istore F (L2 := [some (.inr a0), some (.inl a1), some (.inl a2), some (.inl v5), some (.inl (0 : Int32)), some (.inl (0 : Int32))]) dX0_comeTo_31 (by decide) rfl ?_
      obtain ⟨r7, hr7, h⟩ := bnd h
      have KE7 : ∀ (v12 : Int32), v12 = r7 → G X cx 6 (Qm X cx (some (.inl rv)) m_ nx 0 0) (0) (0) m6 (nx) [none, none, none, none, some (.inl v12), none] [] 71 := by
        intro v12 hq
        subst hq
        try dsimp only at h
        refine G_iload F dX0_comeTo_71 rfl ?_
        cases h
        exact G_iret F rfl (Nat.le_refl _) (Nat.le_refl _) rfl dX0_comeTo_73
      have KB7 : ∀ s o7, fX0_comeTo_L33 m6 a0 s = some o7 → (∀ s', o7 = Sum.inl s' → (fun (s : (Int32 × Int32)) => match s with | (s4_7, s5_7) => G X cx 6 (Qm X cx (some (.inl rv)) m_ nx 0 0) (0) (0) m6 (nx) [some (.inr a0), none, none, none, some (.inl s4_7), some (.inl s5_7)] [] 33) s') → (∀ q, o7 = Sum.inr q → q = r7) → (fun (s : (Int32 × Int32)) => match s with | (s4_7, s5_7) => G X cx 6 (Qm X cx (some (.inl rv)) m_ nx 0 0) (0) (0) m6 (nx) [some (.inr a0), none, none, none, some (.inl s4_7), some (.inl s5_7)] [] 33) s := by
        intro s o7 h hP7 hE7
        obtain ⟨s4_7, s5_7⟩ := s
        try dsimp only at hP7 hE7 ⊢
        refine G_iload F dX0_comeTo_33 rfl ?_
        refine G_bipush F (v := (10 : Int32)) dX0_comeTo_35 (by decide) ?_
        refine G_icmp_ge F (tgt := 71) dX0_comeTo_37 (by decide) (fun c8 => ?_) (fun c8 => ?_)
        · have h := itt c8 h
          cases h
          exact G_sub F (L2 := [none, none, none, none, some (.inl s4_7), none]) ⟨rfl, trivial⟩ (KE7 _ (hE7 _ rfl))
        · have h := itf c8 h
          refine G_iload F dX0_comeTo_40 rfl ?_
          refine G_aload_n F dX0_comeTo_42 rfl ?_
          obtain ⟨v9, e_v9, h⟩ := bnd h
          refine G_getR F okX0 (f := 14) (by decide) q352 rfl dX0_comeTo_43 e_v9 ?_
          refine G_iload F dX0_comeTo_46 rfl ?_
          obtain ⟨v10, e_v10, h⟩ := bnd h
          refine G_iald F dX0_comeTo_48 e_v10 ?_
          refine G_ldc F q1058 dX0_comeTo_49 ?_
          refine G_icmp_ge F (tgt := 61) dX0_comeTo_51 (by decide) (fun c11 => ?_) (fun c11 => ?_)
          · have h := itt c11 h
            refine G_iconst F (v := (0 : Int32)) dX0_comeTo_61 (by decide) ?_
            refine G_ior F dX0_comeTo_62 ?_
            refine G_istore F (L2 := [some (.inr a0), none, none, none, some (.inl (s4_7 ||| (0 : Int32))), some (.inl s5_7)]) dX0_comeTo_63 (by decide) rfl ?_
            refine G_iinc F (v := (s5_7 + (1 : Int32))) (L2 := [some (.inr a0), none, none, none, some (.inl (s4_7 ||| (0 : Int32))), some (.inl (s5_7 + (1 : Int32)))]) dX0_comeTo_65 (by decide) rfl rfl rfl ?_
            refine G_goto F (tgt := 33) dX0_comeTo_68 (by decide) ?_
            cases h
            exact G_sub F (L2 := [some (.inr a0), none, none, none, some (.inl (s4_7 ||| (0 : Int32))), some (.inl (s5_7 + (1 : Int32)))]) ⟨rfl, ⟨rfl, ⟨rfl, trivial⟩⟩⟩ (hP7 _ rfl)
          · have h := itf c11 h
            refine G_iconst F (v := (1 : Int32)) dX0_comeTo_54 (by decide) ?_
            refine G_iload F dX0_comeTo_55 rfl ?_
            refine G_ishl F dX0_comeTo_57 ?_
            refine G_goto F (tgt := 62) dX0_comeTo_58 (by decide) ?_
            refine G_ior F dX0_comeTo_62 ?_
            refine G_istore F (L2 := [some (.inr a0), none, none, none, some (.inl (s4_7 ||| (jshl (1 : Int32) s5_7))), some (.inl s5_7)]) dX0_comeTo_63 (by decide) rfl ?_
            refine G_iinc F (v := (s5_7 + (1 : Int32))) (L2 := [some (.inr a0), none, none, none, some (.inl (s4_7 ||| (jshl (1 : Int32) s5_7))), some (.inl (s5_7 + (1 : Int32)))]) dX0_comeTo_65 (by decide) rfl rfl rfl ?_
            refine G_goto F (tgt := 33) dX0_comeTo_68 (by decide) ?_
            cases h
            exact G_sub F (L2 := [some (.inr a0), none, none, none, some (.inl (s4_7 ||| (jshl (1 : Int32) s5_7))), some (.inl (s5_7 + (1 : Int32)))]) ⟨rfl, ⟨rfl, ⟨rfl, trivial⟩⟩⟩ (hP7 _ rfl)
      have hI := iter_ok (fun (s : (Int32 × Int32)) => match s with | (s4_7, s5_7) => G X cx 6 (Qm X cx (some (.inl rv)) m_ nx 0 0) (0) (0) m6 (nx) [some (.inr a0), none, none, none, some (.inl s4_7), some (.inl s5_7)] [] 33) (fun q => q = r7) KB7 _ _ _ hr7 rfl
      exact G_sub F (L2 := [some (.inr a0), none, none, none, some (.inl (0 : Int32)), some (.inl (0 : Int32))]) ⟨rfl, ⟨rfl, ⟨rfl, trivial⟩⟩⟩ hI
    · have h := itt c4 h
      refine G_iconst F (v := (-1 : Int32)) dX0_comeTo_17 (by decide) ?_
      cases h
      exact G_iret F rfl (Nat.le_refl _) (Nat.le_refl _) rfl dX0_comeTo_18

theorem metX6_goes (X : Gx) {m : Hp} {nx : Nat} {a0 : Option Nat} {a1 : Int32} {a2 : Int32} {rv : Int32} (h : fX6_goes m a0 a1 a2 = some rv) : Con X (2) yX6_goes cX6_goes 3 ((Option.some FieldType.boolean)) [.inr a0, .inl a1, .inl a2] m nx (some (.inl rv)) m 0 0 := by
  refine Con.of (own := RX6) (nm := "goes") (L := [some (.inr a0), some (.inl a1), some (.inl a2)]) (by decide +kernel) rfl rfl (Nat.le_of_ble_eq_true rfl) (ent_of 0 rfl) ?_
  intro cx F
  refine G_aload_n F dX6_goes_0 rfl ?_
  obtain ⟨v1, e_v1, h⟩ := bnd h
  refine G_getI F okX6 (f := 4) (by decide) q310 rfl dX6_goes_1 e_v1 ?_
  refine G_if_eq F (tgt := 33) dX6_goes_4 (by decide) (fun c2 => ?_) (fun c2 => ?_)
  · have h := itt c2 h
    refine G_iconst F (v := (0 : Int32)) dX6_goes_33 (by decide) ?_
    cases h
    exact G_zret F rfl (Or.inl rfl) (Nat.le_refl _) (Nat.le_refl _) rfl dX6_goes_34
  · have h := itf c2 h
    refine G_aload_n F dX6_goes_7 rfl ?_
    refine G_iload_n F dX6_goes_8 rfl ?_
    obtain ⟨v3, e_v3, h⟩ := bnd h
    obtain ⟨hc_v3, e_v3⟩ := hp_on_of e_v3
    refine G_callVv F (As := [.inl a1]) (st := []) (metX6_stopAt X e_v3) hc_v3 rfl rfl (lw_V q1071 q803 q804 q108 q805) hdfX6_stopAt ⟨by omega, by decide⟩ rfl (Nat.le_of_ble_eq_true rfl) ⟨by omega, by omega⟩ dX6_goes_9 ?_
    refine G_iconst F (v := (-1 : Int32)) dX6_goes_12 (by decide) ?_
    refine G_icmp_eq F (tgt := 33) dX6_goes_13 (by decide) (fun c4 => ?_) (fun c4 => ?_)
    · have h := itt c4 h
      refine G_iconst F (v := (0 : Int32)) dX6_goes_33 (by decide) ?_
      cases h
      exact G_zret F rfl (Or.inl rfl) (Nat.le_refl _) (Nat.le_refl _) rfl dX6_goes_34
    · have h := itf c4 h
      refine G_aload_n F dX6_goes_16 rfl ?_
      refine G_iload_n F dX6_goes_17 rfl ?_
      obtain ⟨v5, e_v5, h⟩ := bnd h
      obtain ⟨hc_v5, e_v5⟩ := hp_on_of e_v5
      refine G_callVv F (As := [.inl a2]) (st := []) (metX6_stopAt X e_v5) hc_v5 rfl rfl (lw_V q1071 q803 q804 q108 q805) hdfX6_stopAt ⟨by omega, by decide⟩ rfl (Nat.le_of_ble_eq_true rfl) ⟨by omega, by omega⟩ dX6_goes_18 ?_
      refine G_aload_n F dX6_goes_21 rfl ?_
      refine G_iload_n F dX6_goes_22 rfl ?_
      obtain ⟨v6, e_v6, h⟩ := bnd h
      obtain ⟨hc_v6, e_v6⟩ := hp_on_of e_v6
      refine G_callVv F (As := [.inl a1]) (st := [.inl v5]) (metX6_stopAt X e_v6) hc_v6 rfl rfl (lw_V q1071 q803 q804 q108 q805) hdfX6_stopAt ⟨by omega, by decide⟩ rfl (Nat.le_of_ble_eq_true rfl) ⟨by omega, by omega⟩ dX6_goes_23 ?_
      refine G_icmp_le F (tgt := 33) dX6_goes_26 (by decide) (fun c7 => ?_) (fun c7 => ?_)
      · have h := itt c7 h
        refine G_iconst F (v := (0 : Int32)) dX6_goes_33 (by decide) ?_
        cases h
        exact G_zret F rfl (Or.inl rfl) (Nat.le_refl _) (Nat.le_refl _) rfl dX6_goes_34
      · have h := itf c7 h
        refine G_iconst F (v := (1 : Int32)) dX6_goes_29 (by decide) ?_
        refine G_goto F (tgt := 34) dX6_goes_30 (by decide) ?_
        cases h
        exact G_zret F rfl (Or.inr rfl) (Nat.le_refl _) (Nat.le_refl _) rfl dX6_goes_34

theorem metX0_direct (X : Gx) {m : Hp} {nx : Nat} {a0 : Option Nat} {a1 : Int32} {a2 : Int32} {a3 : Int32} {rv : Int32} (h : fX0_direct m a0 a1 a2 a3 = some rv) : Con X (4) yX0_direct cX0_direct 9 ((Option.some FieldType.int)) [.inr a0, .inl a1, .inl a2, .inl a3] m nx (some (.inl rv)) m 0 0 := by
  refine Con.of (own := RX0) (nm := "direct") (L := [some (.inr a0), some (.inl a1), some (.inl a2), some (.inl a3), none, none, none, none, none]) (by decide +kernel) rfl rfl (Nat.le_of_ble_eq_true rfl) (ent_of 5 rfl) ?_
  intro cx F
  refine G_iload_n F dX0_direct_0 rfl ?_
  refine G_iload_n F dX0_direct_1 rfl ?_
  obtain ⟨v1, e_v1, h⟩ := bnd h
  refine G_callSv F (As := [.inl a1, .inl a2]) (st := []) (metX0_areTwo X e_v1) (lw_S q412 q413 q102 q414) hdfX0_areTwo ⟨by omega, by decide⟩ rfl (Nat.le_of_ble_eq_true rfl) ⟨by omega, by omega⟩ dX0_direct_2 ?_
  refine G_if_eq F (tgt := 16) dX0_direct_5 (by decide) (fun c2 => ?_) (fun c2 => ?_)
  · have h := itt c2 h
    refine G_iconst F (v := (-1 : Int32)) dX0_direct_16 (by decide) ?_
    cases h
    exact G_iret F rfl (Nat.le_refl _) (Nat.le_refl _) rfl dX0_direct_17
  · have h := itf c2 h
    refine G_iload_n F dX0_direct_8 rfl ?_
    refine G_iconst F (v := (2 : Int32)) dX0_direct_9 (by decide) ?_
    obtain ⟨v3, e_v3, h⟩ := bnd h
    refine G_callSv F (As := [.inl a3, .inl (2 : Int32)]) (st := []) (metX0_in X e_v3) (lw_S q409 q410 q102 q411) hdfX0_in ⟨by omega, by decide⟩ rfl (Nat.le_of_ble_eq_true rfl) ⟨by omega, by omega⟩ dX0_direct_10 ?_
    refine G_if_ne F (tgt := 18) dX0_direct_13 (by decide) (fun c4 => ?_) (fun c4 => ?_)
    · have h := itf c4 h
      refine G_iconst F (v := (0 : Int32)) dX0_direct_18 (by decide) ?_
      refine G_istore F (L2 := [some (.inr a0), some (.inl a1), some (.inl a2), some (.inl a3), some (.inl (0 : Int32)), none, none, none, none]) dX0_direct_19 (by decide) rfl ?_
      refine G_iconst F (v := (0 : Int32)) dX0_direct_21 (by decide) ?_
      refine G_istore F (L2 := [some (.inr a0), some (.inl a1), some (.inl a2), some (.inl a3), some (.inl (0 : Int32)), some (.inl (0 : Int32)), none, none, none]) dX0_direct_22 (by decide) rfl ?_
      refine G_iconst F (v := (-1 : Int32)) dX0_direct_24 (by decide) ?_
      refine G_istore F (L2 := [some (.inr a0), some (.inl a1), some (.inl a2), some (.inl a3), some (.inl (0 : Int32)), some (.inl (0 : Int32)), some (.inl (-1 : Int32)), none, none]) dX0_direct_25 (by decide) rfl ?_
      refine G_iconst F (v := (0 : Int32)) dX0_direct_27 (by decide) ?_
      refine G_istore F (L2 := [some (.inr a0), some (.inl a1), some (.inl a2), some (.inl a3), some (.inl (0 : Int32)), some (.inl (0 : Int32)), some (.inl (-1 : Int32)), some (.inl (0 : Int32)), none]) dX0_direct_28 (by decide) rfl ?_
      obtain ⟨r5, hr5, h⟩ := bnd h
      have KE5 : ∀ (v24 : Int32) (v25 : Int32), (v24, v25) = r5 → G X cx 9 (Qm X cx (some (.inl rv)) m nx 0 0) (0) (0) m (nx) [none, none, none, some (.inl a3), some (.inl v24), some (.inl v25), none, none, none] [] 126 := by
        intro v24 v25 hq
        subst hq
        try dsimp only at h
        refine G_iload_n F dX0_direct_126 rfl ?_
        refine G_if_ne F (tgt := 135) dX0_direct_127 (by decide) (fun c26 => ?_) (fun c26 => ?_)
        · have h := itf c26 h
          refine G_iload F dX0_direct_135 rfl ?_
          cases h
          exact G_iret F rfl (Nat.le_refl _) (Nat.le_refl _) rfl dX0_direct_137
        · have h := itt c26 h
          refine G_iload F dX0_direct_130 rfl ?_
          refine G_goto F (tgt := 137) dX0_direct_132 (by decide) ?_
          cases h
          exact G_iret F rfl (Nat.le_refl _) (Nat.le_refl _) rfl dX0_direct_137
      have KB5 : ∀ s o5, fX0_direct_L30 m a0 a1 a2 a3 s = some o5 → (∀ s', o5 = Sum.inl s' → (fun (s : (Int32 × Int32 × Int32 × Int32)) => match s with | (s4_5, s5_5, s6_5, s7_5) => G X cx 9 (Qm X cx (some (.inl rv)) m nx 0 0) (0) (0) m (nx) [some (.inr a0), some (.inl a1), some (.inl a2), some (.inl a3), some (.inl s4_5), some (.inl s5_5), some (.inl s6_5), some (.inl s7_5), none] [] 30) s') → (∀ q, o5 = Sum.inr q → q = r5) → (fun (s : (Int32 × Int32 × Int32 × Int32)) => match s with | (s4_5, s5_5, s6_5, s7_5) => G X cx 9 (Qm X cx (some (.inl rv)) m nx 0 0) (0) (0) m (nx) [some (.inr a0), some (.inl a1), some (.inl a2), some (.inl a3), some (.inl s4_5), some (.inl s5_5), some (.inl s6_5), some (.inl s7_5), none] [] 30) s := by
        intro s o5 h hP5 hE5
        obtain ⟨s4_5, s5_5, s6_5, s7_5⟩ := s
        try dsimp only at hP5 hE5 ⊢
        refine G_iload F dX0_direct_30 rfl ?_
        refine G_aload_n F dX0_direct_32 rfl ?_
        obtain ⟨v6, e_v6, h⟩ := bnd h
        refine G_getI F okX0 (f := 4) (by decide) q337 rfl dX0_direct_33 e_v6 ?_
        refine G_icmp_ge F (tgt := 126) dX0_direct_36 (by decide) (fun c7 => ?_) (fun c7 => ?_)
        · have h := itt c7 h
          cases h
          exact G_sub F (L2 := [none, none, none, some (.inl a3), some (.inl s4_5), some (.inl s5_5), none, none, none]) ⟨rfl, ⟨rfl, ⟨rfl, trivial⟩⟩⟩ (KE5 _ _ (hE5 _ rfl))
        · have h := itf c7 h
          refine G_aload_n F dX0_direct_39 rfl ?_
          obtain ⟨v8, e_v8, h⟩ := bnd h
          refine G_getR F okX0 (f := 0) (by decide) q328 rfl dX0_direct_40 e_v8 ?_
          refine G_aload_n F dX0_direct_43 rfl ?_
          obtain ⟨v9, e_v9, h⟩ := bnd h
          refine G_getR F okX0 (f := 1) (by decide) q330 rfl dX0_direct_44 e_v9 ?_
          refine G_iload F dX0_direct_47 rfl ?_
          obtain ⟨v10, e_v10, h⟩ := bnd h
          refine G_iald F dX0_direct_49 e_v10 ?_
          obtain ⟨v11, e_v11, h⟩ := bnd h
          refine G_aald F (t := 5) (by decide) dX0_direct_50 e_v11 ?_
          refine G_astore F (L2 := [some (.inr a0), some (.inl a1), some (.inl a2), some (.inl a3), some (.inl s4_5), some (.inl s5_5), some (.inl s6_5), some (.inl s7_5), some (.inr v11)]) dX0_direct_51 (by decide) rfl ?_
          refine G_aload F dX0_direct_53 rfl ?_
          refine G_iload_n F dX0_direct_55 rfl ?_
          refine G_iload_n F dX0_direct_56 rfl ?_
          obtain ⟨v12, e_v12, h⟩ := bnd h
          obtain ⟨hc_v12, e_v12⟩ := hp_on_of e_v12
          refine G_callVv F (As := [.inl a1, .inl a2]) (st := []) (metX6_goes X e_v12) hc_v12 rfl rfl (lw_V q1100 q1101 q1102 q108 q1103) hdfX6_goes ⟨by omega, by decide⟩ rfl (Nat.le_of_ble_eq_true rfl) ⟨by omega, by omega⟩ dX0_direct_57 ?_
          refine G_if_eq F (tgt := 120) dX0_direct_60 (by decide) (fun c13 => ?_) (fun c13 => ?_)
          · have h := itt c13 h
            refine G_iinc F (v := (s7_5 + (1 : Int32))) (L2 := [some (.inr a0), some (.inl a1), some (.inl a2), some (.inl a3), some (.inl s4_5), some (.inl s5_5), some (.inl s6_5), some (.inl (s7_5 + (1 : Int32))), some (.inr v11)]) dX0_direct_120 (by decide) rfl rfl rfl ?_
            refine G_goto F (tgt := 30) dX0_direct_123 (by decide) ?_
            cases h
            exact G_sub F (L2 := [some (.inr a0), some (.inl a1), some (.inl a2), some (.inl a3), some (.inl s4_5), some (.inl s5_5), some (.inl s6_5), some (.inl (s7_5 + (1 : Int32))), none]) ⟨rfl, ⟨rfl, ⟨rfl, ⟨rfl, ⟨rfl, ⟨rfl, ⟨rfl, ⟨rfl, trivial⟩⟩⟩⟩⟩⟩⟩⟩ (hP5 _ rfl)
          · have h := itf c13 h
            refine G_aload F dX0_direct_63 rfl ?_
            obtain ⟨v14, e_v14, h⟩ := bnd h
            refine G_getRN F okX6 (f := 0) (by decide) q298 rfl dX0_direct_65 e_v14 ?_
            refine G_aload_n F dX0_direct_68 rfl ?_
            obtain ⟨v15, e_v15, h⟩ := bnd h
            refine G_getR F okX0 (f := 2) (by decide) q332 rfl dX0_direct_69 e_v15 ?_
            refine G_iload F dX0_direct_72 rfl ?_
            obtain ⟨v16, e_v16, h⟩ := bnd h
            refine G_iald F dX0_direct_74 e_v16 ?_
            obtain ⟨v17, e_v17, h⟩ := bnd h
            refine G_iald F dX0_direct_75 e_v17 ?_
            refine G_iload_n F dX0_direct_76 rfl ?_
            refine G_icmp_eq F (tgt := 83) dX0_direct_77 (by decide) (fun c18 => ?_) (fun c18 => ?_)
            · have h := itt c18 h
              refine G_iload F dX0_direct_83 rfl ?_
              refine G_iconst F (v := (-1 : Int32)) dX0_direct_85 (by decide) ?_
              obtain ⟨p20, hp20, h⟩ := bnd h
              have K20 : ∀ (v19 : Int32), v19 = p20 → G X cx 9 (Qm X cx (some (.inl rv)) m nx 0 0) (0) (0) m (nx) [some (.inr a0), some (.inl a1), some (.inl a2), some (.inl a3), some (.inl s4_5), none, none, some (.inl s7_5), none] [.inl v19] 107 := by
                intro v19 hq
                subst hq
                try dsimp only at h
                refine G_istore F (L2 := [some (.inr a0), some (.inl a1), some (.inl a2), some (.inl a3), some (.inl s4_5), some (.inl v19), none, some (.inl s7_5), none]) dX0_direct_107 (by decide) rfl ?_
                refine G_aload_n F dX0_direct_109 rfl ?_
                refine G_iload F dX0_direct_110 rfl ?_
                obtain ⟨v21, e_v21, h⟩ := bnd h
                obtain ⟨hc_v21, e_v21⟩ := hp_on_of e_v21
                refine G_callVv F (As := [.inl s7_5]) (st := []) (metX0_minuteOf X e_v21) hc_v21 rfl rfl (lw_V q870 q872 qs20 q102 q873) hdfX0_minuteOf ⟨by omega, by decide⟩ rfl (Nat.le_of_ble_eq_true rfl) ⟨by omega, by omega⟩ dX0_direct_112 ?_
                refine G_istore F (L2 := [some (.inr a0), some (.inl a1), some (.inl a2), some (.inl a3), some (.inl s4_5), some (.inl v19), some (.inl v21), some (.inl s7_5), none]) dX0_direct_115 (by decide) rfl ?_
                refine G_iinc F (v := (s4_5 + (1 : Int32))) (L2 := [some (.inr a0), some (.inl a1), some (.inl a2), some (.inl a3), some (.inl (s4_5 + (1 : Int32))), some (.inl v19), some (.inl v21), some (.inl s7_5), none]) dX0_direct_117 (by decide) rfl rfl rfl ?_
                refine G_iinc F (v := (s7_5 + (1 : Int32))) (L2 := [some (.inr a0), some (.inl a1), some (.inl a2), some (.inl a3), some (.inl (s4_5 + (1 : Int32))), some (.inl v19), some (.inl v21), some (.inl (s7_5 + (1 : Int32))), none]) dX0_direct_120 (by decide) rfl rfl rfl ?_
                refine G_goto F (tgt := 30) dX0_direct_123 (by decide) ?_
                cases h
                exact G_sub F (L2 := [some (.inr a0), some (.inl a1), some (.inl a2), some (.inl a3), some (.inl (s4_5 + (1 : Int32))), some (.inl v19), some (.inl v21), some (.inl (s7_5 + (1 : Int32))), none]) ⟨rfl, ⟨rfl, ⟨rfl, ⟨rfl, ⟨rfl, ⟨rfl, ⟨rfl, ⟨rfl, trivial⟩⟩⟩⟩⟩⟩⟩⟩ (hP5 _ rfl)
              have h := hp20
              clear hp20
              refine G_icmp_ne F (tgt := 93) dX0_direct_86 (by decide) (fun c22 => ?_) (fun c22 => ?_)
              · have h := itf c22 h
                refine G_iload F dX0_direct_93 rfl ?_
                refine G_aload_n F dX0_direct_95 rfl ?_
                refine G_iload F dX0_direct_96 rfl ?_
                obtain ⟨v23, e_v23, h⟩ := bnd h
                obtain ⟨hc_v23, e_v23⟩ := hp_on_of e_v23
                refine G_callVv F (As := [.inl s7_5]) (st := [.inl s5_5]) (metX0_minuteOf X e_v23) hc_v23 rfl rfl (lw_V q870 q872 qs20 q102 q873) hdfX0_minuteOf ⟨by omega, by decide⟩ rfl (Nat.le_of_ble_eq_true rfl) ⟨by omega, by omega⟩ dX0_direct_98 ?_
                refine G_iload F dX0_direct_101 rfl ?_
                refine G_isub F dX0_direct_103 ?_
                refine G_mmax F q991 q514 q113 q515 (by omega) (Nat.le_of_ble_eq_true rfl) ⟨by omega, by omega⟩ dX0_direct_104 ?_
                have hq_ := Option.some.inj h
                exact G_sub F (L2 := [some (.inr a0), some (.inl a1), some (.inl a2), some (.inl a3), some (.inl s4_5), none, none, some (.inl s7_5), none]) ⟨rfl, ⟨rfl, ⟨rfl, ⟨rfl, ⟨rfl, ⟨rfl, trivial⟩⟩⟩⟩⟩⟩ (K20 _ hq_)
              · have h := itt c22 h
                refine G_iconst F (v := (0 : Int32)) dX0_direct_89 (by decide) ?_
                refine G_goto F (tgt := 107) dX0_direct_90 (by decide) ?_
                have hq_ := Option.some.inj h
                exact G_sub F (L2 := [some (.inr a0), some (.inl a1), some (.inl a2), some (.inl a3), some (.inl s4_5), none, none, some (.inl s7_5), none]) ⟨rfl, ⟨rfl, ⟨rfl, ⟨rfl, ⟨rfl, ⟨rfl, trivial⟩⟩⟩⟩⟩⟩ (K20 _ hq_)
            · have h := itf c18 h
              refine G_goto F (tgt := 120) dX0_direct_80 (by decide) ?_
              refine G_iinc F (v := (s7_5 + (1 : Int32))) (L2 := [some (.inr a0), some (.inl a1), some (.inl a2), some (.inl a3), some (.inl s4_5), some (.inl s5_5), some (.inl s6_5), some (.inl (s7_5 + (1 : Int32))), some (.inr v11)]) dX0_direct_120 (by decide) rfl rfl rfl ?_
              refine G_goto F (tgt := 30) dX0_direct_123 (by decide) ?_
              cases h
              exact G_sub F (L2 := [some (.inr a0), some (.inl a1), some (.inl a2), some (.inl a3), some (.inl s4_5), some (.inl s5_5), some (.inl s6_5), some (.inl (s7_5 + (1 : Int32))), none]) ⟨rfl, ⟨rfl, ⟨rfl, ⟨rfl, ⟨rfl, ⟨rfl, ⟨rfl, ⟨rfl, trivial⟩⟩⟩⟩⟩⟩⟩⟩ (hP5 _ rfl)
      have hI := iter_ok (fun (s : (Int32 × Int32 × Int32 × Int32)) => match s with | (s4_5, s5_5, s6_5, s7_5) => G X cx 9 (Qm X cx (some (.inl rv)) m nx 0 0) (0) (0) m (nx) [some (.inr a0), some (.inl a1), some (.inl a2), some (.inl a3), some (.inl s4_5), some (.inl s5_5), some (.inl s6_5), some (.inl s7_5), none] [] 30) (fun q => q = r5) KB5 _ _ _ hr5 rfl
      exact G_sub F (L2 := [some (.inr a0), some (.inl a1), some (.inl a2), some (.inl a3), some (.inl (0 : Int32)), some (.inl (0 : Int32)), some (.inl (-1 : Int32)), some (.inl (0 : Int32)), none]) ⟨rfl, ⟨rfl, ⟨rfl, ⟨rfl, ⟨rfl, ⟨rfl, ⟨rfl, ⟨rfl, trivial⟩⟩⟩⟩⟩⟩⟩⟩ hI
    · have h := itt c4 h
      refine G_iconst F (v := (-1 : Int32)) dX0_direct_16 (by decide) ?_
      cases h
      exact G_iret F rfl (Nat.le_refl _) (Nat.le_refl _) rfl dX0_direct_17

theorem metX6_comes (X : Gx) {m : Hp} {nx : Nat} {a0 : Option Nat} {a1 : Int32} {rv : Int32} (h : fX6_comes m a0 a1 = some rv) : Con X (2) yX6_comes cX6_comes 2 ((Option.some FieldType.boolean)) [.inr a0, .inl a1] m nx (some (.inl rv)) m 0 0 := by
  refine Con.of (own := RX6) (nm := "comes") (L := [some (.inr a0), some (.inl a1)]) (by decide +kernel) rfl rfl (Nat.le_of_ble_eq_true rfl) (ent_of 0 rfl) ?_
  intro cx F
  refine G_aload_n F dX6_comes_0 rfl ?_
  obtain ⟨v1, e_v1, h⟩ := bnd h
  refine G_getI F okX6 (f := 4) (by decide) q310 rfl dX6_comes_1 e_v1 ?_
  refine G_if_eq F (tgt := 19) dX6_comes_4 (by decide) (fun c2 => ?_) (fun c2 => ?_)
  · have h := itt c2 h
    refine G_iconst F (v := (0 : Int32)) dX6_comes_19 (by decide) ?_
    cases h
    exact G_zret F rfl (Or.inl rfl) (Nat.le_refl _) (Nat.le_refl _) rfl dX6_comes_20
  · have h := itf c2 h
    refine G_aload_n F dX6_comes_7 rfl ?_
    refine G_iload_n F dX6_comes_8 rfl ?_
    obtain ⟨v3, e_v3, h⟩ := bnd h
    obtain ⟨hc_v3, e_v3⟩ := hp_on_of e_v3
    refine G_callVv F (As := [.inl a1]) (st := []) (metX6_stopAt X e_v3) hc_v3 rfl rfl (lw_V q1071 q803 q804 q108 q805) hdfX6_stopAt ⟨by omega, by decide⟩ rfl (Nat.le_of_ble_eq_true rfl) ⟨by omega, by omega⟩ dX6_comes_9 ?_
    refine G_if_le F (tgt := 19) dX6_comes_12 (by decide) (fun c4 => ?_) (fun c4 => ?_)
    · have h := itt c4 h
      refine G_iconst F (v := (0 : Int32)) dX6_comes_19 (by decide) ?_
      cases h
      exact G_zret F rfl (Or.inl rfl) (Nat.le_refl _) (Nat.le_refl _) rfl dX6_comes_20
    · have h := itf c4 h
      refine G_iconst F (v := (1 : Int32)) dX6_comes_15 (by decide) ?_
      refine G_goto F (tgt := 20) dX6_comes_16 (by decide) ?_
      cases h
      exact G_zret F rfl (Or.inr rfl) (Nat.le_refl _) (Nat.le_refl _) rfl dX6_comes_20

theorem metX0_justMissed (X : Gx) {m : Hp} {nx : Nat} {a0 : Option Nat} {a1 : Int32} {a2 : Int32} {rv : Int32} (h : fX0_justMissed m a0 a1 a2 = some rv) : Con X (3) yX0_justMissed cX0_justMissed 7 ((Option.some FieldType.int)) [.inr a0, .inl a1, .inl a2] m nx (some (.inl rv)) m 0 0 := by
  refine Con.of (own := RX0) (nm := "justMissed") (L := [some (.inr a0), some (.inl a1), some (.inl a2), none, none, none, none]) (by decide +kernel) rfl rfl (Nat.le_of_ble_eq_true rfl) (ent_of 4 rfl) ?_
  intro cx F
  refine G_iload_n F dX0_justMissed_0 rfl ?_
  obtain ⟨v1, e_v1, h⟩ := bnd h
  refine G_callSv F (As := [.inl a1]) (st := []) (metX0_isStation X e_v1) (lw_S q415 q416 q102 q417) hdfX0_isStation ⟨by omega, by decide⟩ rfl (Nat.le_of_ble_eq_true rfl) ⟨by omega, by omega⟩ dX0_justMissed_1 ?_
  refine G_if_eq F (tgt := 17) dX0_justMissed_4 (by decide) (fun c2 => ?_) (fun c2 => ?_)
  · have h := itt c2 h
    refine G_iconst F (v := (-1 : Int32)) dX0_justMissed_17 (by decide) ?_
    cases h
    exact G_iret F rfl (Nat.le_refl _) (Nat.le_refl _) rfl dX0_justMissed_18
  · have h := itf c2 h
    refine G_iload_n F dX0_justMissed_7 rfl ?_
    refine G_iconst F (v := (0 : Int32)) dX0_justMissed_8 (by decide) ?_
    refine G_bipush F (v := (60 : Int32)) dX0_justMissed_9 (by decide) ?_
    obtain ⟨v3, e_v3, h⟩ := bnd h
    refine G_callSv F (As := [.inl a2, .inl (0 : Int32), .inl (60 : Int32)]) (st := []) (metX0_within X e_v3) (lw_S q422 q423 q102 q424) hdfX0_within ⟨by omega, by decide⟩ rfl (Nat.le_of_ble_eq_true rfl) ⟨by omega, by omega⟩ dX0_justMissed_11 ?_
    refine G_if_ne F (tgt := 19) dX0_justMissed_14 (by decide) (fun c4 => ?_) (fun c4 => ?_)
    · have h := itf c4 h
      refine G_iconst F (v := (0 : Int32)) dX0_justMissed_19 (by decide) ?_
      refine G_istore_n F (L2 := [some (.inr a0), some (.inl a1), some (.inl a2), some (.inl (0 : Int32)), none, none, none]) dX0_justMissed_20 (by decide) rfl ?_
      refine G_iconst F (v := (0 : Int32)) dX0_justMissed_21 (by decide) ?_
      refine G_istore F (L2 := [some (.inr a0), some (.inl a1), some (.inl a2), some (.inl (0 : Int32)), some (.inl (0 : Int32)), none, none]) dX0_justMissed_22 (by decide) rfl ?_
      obtain ⟨r5, hr5, h⟩ := bnd h
      have KE5 : ∀ (v30 : Int32), v30 = r5 → G X cx 7 (Qm X cx (some (.inl rv)) m nx 0 0) (0) (0) m (nx) [none, none, none, some (.inl v30), none, none, none] [] 144 := by
        intro v30 hq
        subst hq
        try dsimp only at h
        refine G_iload_n F dX0_justMissed_144 rfl ?_
        cases h
        exact G_iret F rfl (Nat.le_refl _) (Nat.le_refl _) rfl dX0_justMissed_145
      have KB5 : ∀ s o5, fX0_justMissed_L24 m a0 a1 a2 s = some o5 → (∀ s', o5 = Sum.inl s' → (fun (s : (Int32 × Int32)) => match s with | (s3_5, s4_5) => G X cx 7 (Qm X cx (some (.inl rv)) m nx 0 0) (0) (0) m (nx) [some (.inr a0), some (.inl a1), some (.inl a2), some (.inl s3_5), some (.inl s4_5), none, none] [] 24) s') → (∀ q, o5 = Sum.inr q → q = r5) → (fun (s : (Int32 × Int32)) => match s with | (s3_5, s4_5) => G X cx 7 (Qm X cx (some (.inl rv)) m nx 0 0) (0) (0) m (nx) [some (.inr a0), some (.inl a1), some (.inl a2), some (.inl s3_5), some (.inl s4_5), none, none] [] 24) s := by
        intro s o5 h hP5 hE5
        obtain ⟨s3_5, s4_5⟩ := s
        try dsimp only at hP5 hE5 ⊢
        refine G_iload F dX0_justMissed_24 rfl ?_
        refine G_aload_n F dX0_justMissed_26 rfl ?_
        obtain ⟨v6, e_v6, h⟩ := bnd h
        refine G_getI F okX0 (f := 3) (by decide) q335 rfl dX0_justMissed_27 e_v6 ?_
        refine G_icmp_ge F (tgt := 144) dX0_justMissed_30 (by decide) (fun c7 => ?_) (fun c7 => ?_)
        · have h := itt c7 h
          cases h
          exact G_sub F (L2 := [none, none, none, some (.inl s3_5), none, none, none]) ⟨rfl, trivial⟩ (KE5 _ (hE5 _ rfl))
        · have h := itf c7 h
          refine G_iconst F (v := (0 : Int32)) dX0_justMissed_33 (by decide) ?_
          refine G_istore F (L2 := [some (.inr a0), some (.inl a1), some (.inl a2), some (.inl s3_5), some (.inl s4_5), some (.inl (0 : Int32)), none]) dX0_justMissed_34 (by decide) rfl ?_
          obtain ⟨r8, hr8, h⟩ := bnd h
          have KE8 : ∀ (v29 : Int32), v29 = r8 → G X cx 7 (Qm X cx (some (.inl rv)) m nx 0 0) (0) (0) m (nx) [some (.inr a0), some (.inl a1), some (.inl a2), some (.inl v29), some (.inl s4_5), none, none] [] 138 := by
            intro v29 hq
            subst hq
            try dsimp only at h
            refine G_iinc F (v := (s4_5 + (1 : Int32))) (L2 := [some (.inr a0), some (.inl a1), some (.inl a2), some (.inl v29), some (.inl (s4_5 + (1 : Int32))), none, none]) dX0_justMissed_138 (by decide) rfl rfl rfl ?_
            refine G_goto F (tgt := 24) dX0_justMissed_141 (by decide) ?_
            cases h
            exact G_sub F (L2 := [some (.inr a0), some (.inl a1), some (.inl a2), some (.inl v29), some (.inl (s4_5 + (1 : Int32))), none, none]) ⟨rfl, ⟨rfl, ⟨rfl, ⟨rfl, ⟨rfl, trivial⟩⟩⟩⟩⟩ (hP5 _ rfl)
          have KB8 : ∀ s o8, fX0_justMissed_L36 m a0 a1 a2 s4_5 s = some o8 → (∀ s', o8 = Sum.inl s' → (fun (s : (Int32 × Int32)) => match s with | (s3_8, s5_8) => G X cx 7 (Qm X cx (some (.inl rv)) m nx 0 0) (0) (0) m (nx) [some (.inr a0), some (.inl a1), some (.inl a2), some (.inl s3_8), some (.inl s4_5), some (.inl s5_8), none] [] 36) s') → (∀ q, o8 = Sum.inr q → q = r8) → (fun (s : (Int32 × Int32)) => match s with | (s3_8, s5_8) => G X cx 7 (Qm X cx (some (.inl rv)) m nx 0 0) (0) (0) m (nx) [some (.inr a0), some (.inl a1), some (.inl a2), some (.inl s3_8), some (.inl s4_5), some (.inl s5_8), none] [] 36) s := by
            intro s o8 h hP8 hE8
            obtain ⟨s3_8, s5_8⟩ := s
            try dsimp only at hP8 hE8 ⊢
            refine G_iload F dX0_justMissed_36 rfl ?_
            refine G_aload_n F dX0_justMissed_38 rfl ?_
            obtain ⟨v9, e_v9, h⟩ := bnd h
            refine G_getI F okX0 (f := 3) (by decide) q335 rfl dX0_justMissed_39 e_v9 ?_
            refine G_icmp_ge F (tgt := 138) dX0_justMissed_42 (by decide) (fun c10 => ?_) (fun c10 => ?_)
            · have h := itt c10 h
              cases h
              exact G_sub F (L2 := [some (.inr a0), some (.inl a1), some (.inl a2), some (.inl s3_8), some (.inl s4_5), none, none]) ⟨rfl, ⟨rfl, ⟨rfl, ⟨rfl, ⟨rfl, trivial⟩⟩⟩⟩⟩ (KE8 _ (hE8 _ rfl))
            · have h := itf c10 h
              refine G_iload F dX0_justMissed_45 rfl ?_
              refine G_iload F dX0_justMissed_47 rfl ?_
              refine G_icmp_eq F (tgt := 132) dX0_justMissed_49 (by decide) (fun c11 => ?_) (fun c11 => ?_)
              · have h := itt c11 h
                refine G_iinc F (v := (s5_8 + (1 : Int32))) (L2 := [some (.inr a0), some (.inl a1), some (.inl a2), some (.inl s3_8), some (.inl s4_5), some (.inl (s5_8 + (1 : Int32))), none]) dX0_justMissed_132 (by decide) rfl rfl rfl ?_
                refine G_goto F (tgt := 36) dX0_justMissed_135 (by decide) ?_
                cases h
                exact G_sub F (L2 := [some (.inr a0), some (.inl a1), some (.inl a2), some (.inl s3_8), some (.inl s4_5), some (.inl (s5_8 + (1 : Int32))), none]) ⟨rfl, ⟨rfl, ⟨rfl, ⟨rfl, ⟨rfl, ⟨rfl, trivial⟩⟩⟩⟩⟩⟩ (hP8 _ rfl)
              · have h := itf c11 h
                refine G_aload_n F dX0_justMissed_52 rfl ?_
                obtain ⟨v12, e_v12, h⟩ := bnd h
                refine G_getR F okX0 (f := 0) (by decide) q328 rfl dX0_justMissed_53 e_v12 ?_
                refine G_iload F dX0_justMissed_56 rfl ?_
                obtain ⟨v13, e_v13, h⟩ := bnd h
                refine G_aald F (t := 5) (by decide) dX0_justMissed_58 e_v13 ?_
                refine G_iload_n F dX0_justMissed_59 rfl ?_
                obtain ⟨v14, e_v14, h⟩ := bnd h
                obtain ⟨hc_v14, e_v14⟩ := hp_on_of e_v14
                refine G_callVv F (As := [.inl a1]) (st := []) (metX6_comes X e_v14) hc_v14 rfl rfl (lw_V q1108 q1109 q1110 q108 q1111) hdfX6_comes ⟨by omega, by decide⟩ rfl (Nat.le_of_ble_eq_true rfl) ⟨by omega, by omega⟩ dX0_justMissed_60 ?_
                refine G_if_eq F (tgt := 132) dX0_justMissed_63 (by decide) (fun c15 => ?_) (fun c15 => ?_)
                · have h := itt c15 h
                  refine G_iinc F (v := (s5_8 + (1 : Int32))) (L2 := [some (.inr a0), some (.inl a1), some (.inl a2), some (.inl s3_8), some (.inl s4_5), some (.inl (s5_8 + (1 : Int32))), none]) dX0_justMissed_132 (by decide) rfl rfl rfl ?_
                  refine G_goto F (tgt := 36) dX0_justMissed_135 (by decide) ?_
                  cases h
                  exact G_sub F (L2 := [some (.inr a0), some (.inl a1), some (.inl a2), some (.inl s3_8), some (.inl s4_5), some (.inl (s5_8 + (1 : Int32))), none]) ⟨rfl, ⟨rfl, ⟨rfl, ⟨rfl, ⟨rfl, ⟨rfl, trivial⟩⟩⟩⟩⟩⟩ (hP8 _ rfl)
                · have h := itf c15 h
                  refine G_aload_n F dX0_justMissed_66 rfl ?_
                  obtain ⟨v16, e_v16, h⟩ := bnd h
                  refine G_getR F okX0 (f := 0) (by decide) q328 rfl dX0_justMissed_67 e_v16 ?_
                  refine G_iload F dX0_justMissed_70 rfl ?_
                  obtain ⟨v17, e_v17, h⟩ := bnd h
                  refine G_aald F (t := 5) (by decide) dX0_justMissed_72 e_v17 ?_
                  refine G_iload_n F dX0_justMissed_73 rfl ?_
                  obtain ⟨v18, e_v18, h⟩ := bnd h
                  obtain ⟨hc_v18, e_v18⟩ := hp_on_of e_v18
                  refine G_callVv F (As := [.inl a1]) (st := []) (metX6_leaves X e_v18) hc_v18 rfl rfl (lw_V q1067 q1068 q1069 q108 q1070) hdfX6_leaves ⟨by omega, by decide⟩ rfl (Nat.le_of_ble_eq_true rfl) ⟨by omega, by omega⟩ dX0_justMissed_74 ?_
                  refine G_if_ne F (tgt := 83) dX0_justMissed_77 (by decide) (fun c19 => ?_) (fun c19 => ?_)
                  · have h := itf c19 h
                    refine G_aload_n F dX0_justMissed_83 rfl ?_
                    obtain ⟨v20, e_v20, h⟩ := bnd h
                    refine G_getR F okX0 (f := 0) (by decide) q328 rfl dX0_justMissed_84 e_v20 ?_
                    refine G_iload F dX0_justMissed_87 rfl ?_
                    obtain ⟨v21, e_v21, h⟩ := bnd h
                    refine G_aald F (t := 5) (by decide) dX0_justMissed_89 e_v21 ?_
                    refine G_iload_n F dX0_justMissed_90 rfl ?_
                    obtain ⟨v22, e_v22, h⟩ := bnd h
                    obtain ⟨hc_v22, e_v22⟩ := hp_on_of e_v22
                    refine G_callVv F (As := [.inl a1]) (st := []) (metX6_minuteAt X e_v22) hc_v22 rfl rfl (lw_V q1072 q1073 q1074 q108 q1075) hdfX6_minuteAt ⟨by omega, by decide⟩ rfl (Nat.le_of_ble_eq_true rfl) ⟨by omega, by omega⟩ dX0_justMissed_91 ?_
                    refine G_aload_n F dX0_justMissed_94 rfl ?_
                    obtain ⟨v23, e_v23, h⟩ := bnd h
                    refine G_getR F okX0 (f := 0) (by decide) q328 rfl dX0_justMissed_95 e_v23 ?_
                    refine G_iload F dX0_justMissed_98 rfl ?_
                    obtain ⟨v24, e_v24, h⟩ := bnd h
                    refine G_aald F (t := 5) (by decide) dX0_justMissed_100 e_v24 ?_
                    refine G_iload_n F dX0_justMissed_101 rfl ?_
                    obtain ⟨v25, e_v25, h⟩ := bnd h
                    obtain ⟨hc_v25, e_v25⟩ := hp_on_of e_v25
                    refine G_callVv F (As := [.inl a1]) (st := [.inl v22]) (metX6_minuteAt X e_v25) hc_v25 rfl rfl (lw_V q1072 q1073 q1074 q108 q1075) hdfX6_minuteAt ⟨by omega, by decide⟩ rfl (Nat.le_of_ble_eq_true rfl) ⟨by omega, by omega⟩ dX0_justMissed_102 ?_
                    refine G_isub F dX0_justMissed_105 ?_
                    refine G_istore F (L2 := [some (.inr a0), some (.inl a1), some (.inl a2), some (.inl s3_8), some (.inl s4_5), some (.inl s5_8), some (.inl (v22 - v25))]) dX0_justMissed_106 (by decide) rfl ?_
                    refine G_iload_n F dX0_justMissed_108 rfl ?_
                    refine G_iload F dX0_justMissed_109 rfl ?_
                    refine G_iload_n F dX0_justMissed_111 rfl ?_
                    refine G_ineg F dX0_justMissed_112 ?_
                    refine G_icmp_lt F (tgt := 129) dX0_justMissed_113 (by decide) (fun c26 => ?_) (fun c26 => ?_)
                    · have h := itt c26 h
                      refine G_iconst F (v := (0 : Int32)) dX0_justMissed_129 (by decide) ?_
                      refine G_iadd F dX0_justMissed_130 ?_
                      refine G_istore_n F (L2 := [some (.inr a0), some (.inl a1), some (.inl a2), some (.inl (s3_8 + (0 : Int32))), some (.inl s4_5), some (.inl s5_8), some (.inl (v22 - v25))]) dX0_justMissed_131 (by decide) rfl ?_
                      refine G_iinc F (v := (s5_8 + (1 : Int32))) (L2 := [some (.inr a0), some (.inl a1), some (.inl a2), some (.inl (s3_8 + (0 : Int32))), some (.inl s4_5), some (.inl (s5_8 + (1 : Int32))), some (.inl (v22 - v25))]) dX0_justMissed_132 (by decide) rfl rfl rfl ?_
                      refine G_goto F (tgt := 36) dX0_justMissed_135 (by decide) ?_
                      cases h
                      exact G_sub F (L2 := [some (.inr a0), some (.inl a1), some (.inl a2), some (.inl (s3_8 + (0 : Int32))), some (.inl s4_5), some (.inl (s5_8 + (1 : Int32))), none]) ⟨rfl, ⟨rfl, ⟨rfl, ⟨rfl, ⟨rfl, ⟨rfl, trivial⟩⟩⟩⟩⟩⟩ (hP8 _ rfl)
                    · have h := itf c26 h
                      refine G_iload F dX0_justMissed_116 rfl ?_
                      refine G_aload_n F dX0_justMissed_118 rfl ?_
                      obtain ⟨v27, e_v27, h⟩ := bnd h
                      refine G_getI F okX0 (f := 5) (by decide) q339 rfl dX0_justMissed_119 e_v27 ?_
                      refine G_icmp_ge F (tgt := 129) dX0_justMissed_122 (by decide) (fun c28 => ?_) (fun c28 => ?_)
                      · have h := itt c28 h
                        refine G_iconst F (v := (0 : Int32)) dX0_justMissed_129 (by decide) ?_
                        refine G_iadd F dX0_justMissed_130 ?_
                        refine G_istore_n F (L2 := [some (.inr a0), some (.inl a1), some (.inl a2), some (.inl (s3_8 + (0 : Int32))), some (.inl s4_5), some (.inl s5_8), some (.inl (v22 - v25))]) dX0_justMissed_131 (by decide) rfl ?_
                        refine G_iinc F (v := (s5_8 + (1 : Int32))) (L2 := [some (.inr a0), some (.inl a1), some (.inl a2), some (.inl (s3_8 + (0 : Int32))), some (.inl s4_5), some (.inl (s5_8 + (1 : Int32))), some (.inl (v22 - v25))]) dX0_justMissed_132 (by decide) rfl rfl rfl ?_
                        refine G_goto F (tgt := 36) dX0_justMissed_135 (by decide) ?_
                        cases h
                        exact G_sub F (L2 := [some (.inr a0), some (.inl a1), some (.inl a2), some (.inl (s3_8 + (0 : Int32))), some (.inl s4_5), some (.inl (s5_8 + (1 : Int32))), none]) ⟨rfl, ⟨rfl, ⟨rfl, ⟨rfl, ⟨rfl, ⟨rfl, trivial⟩⟩⟩⟩⟩⟩ (hP8 _ rfl)
                      · have h := itf c28 h
                        refine G_iconst F (v := (1 : Int32)) dX0_justMissed_125 (by decide) ?_
                        refine G_goto F (tgt := 130) dX0_justMissed_126 (by decide) ?_
                        refine G_iadd F dX0_justMissed_130 ?_
                        refine G_istore_n F (L2 := [some (.inr a0), some (.inl a1), some (.inl a2), some (.inl (s3_8 + (1 : Int32))), some (.inl s4_5), some (.inl s5_8), some (.inl (v22 - v25))]) dX0_justMissed_131 (by decide) rfl ?_
                        refine G_iinc F (v := (s5_8 + (1 : Int32))) (L2 := [some (.inr a0), some (.inl a1), some (.inl a2), some (.inl (s3_8 + (1 : Int32))), some (.inl s4_5), some (.inl (s5_8 + (1 : Int32))), some (.inl (v22 - v25))]) dX0_justMissed_132 (by decide) rfl rfl rfl ?_
                        refine G_goto F (tgt := 36) dX0_justMissed_135 (by decide) ?_
                        cases h
                        exact G_sub F (L2 := [some (.inr a0), some (.inl a1), some (.inl a2), some (.inl (s3_8 + (1 : Int32))), some (.inl s4_5), some (.inl (s5_8 + (1 : Int32))), none]) ⟨rfl, ⟨rfl, ⟨rfl, ⟨rfl, ⟨rfl, ⟨rfl, trivial⟩⟩⟩⟩⟩⟩ (hP8 _ rfl)
                  · have h := itt c19 h
                    refine G_goto F (tgt := 132) dX0_justMissed_80 (by decide) ?_
                    refine G_iinc F (v := (s5_8 + (1 : Int32))) (L2 := [some (.inr a0), some (.inl a1), some (.inl a2), some (.inl s3_8), some (.inl s4_5), some (.inl (s5_8 + (1 : Int32))), none]) dX0_justMissed_132 (by decide) rfl rfl rfl ?_
                    refine G_goto F (tgt := 36) dX0_justMissed_135 (by decide) ?_
                    cases h
                    exact G_sub F (L2 := [some (.inr a0), some (.inl a1), some (.inl a2), some (.inl s3_8), some (.inl s4_5), some (.inl (s5_8 + (1 : Int32))), none]) ⟨rfl, ⟨rfl, ⟨rfl, ⟨rfl, ⟨rfl, ⟨rfl, trivial⟩⟩⟩⟩⟩⟩ (hP8 _ rfl)
          have hI := iter_ok (fun (s : (Int32 × Int32)) => match s with | (s3_8, s5_8) => G X cx 7 (Qm X cx (some (.inl rv)) m nx 0 0) (0) (0) m (nx) [some (.inr a0), some (.inl a1), some (.inl a2), some (.inl s3_8), some (.inl s4_5), some (.inl s5_8), none] [] 36) (fun q => q = r8) KB8 _ _ _ hr8 rfl
          exact G_sub F (L2 := [some (.inr a0), some (.inl a1), some (.inl a2), some (.inl s3_5), some (.inl s4_5), some (.inl (0 : Int32)), none]) ⟨rfl, ⟨rfl, ⟨rfl, ⟨rfl, ⟨rfl, ⟨rfl, trivial⟩⟩⟩⟩⟩⟩ hI
      have hI := iter_ok (fun (s : (Int32 × Int32)) => match s with | (s3_5, s4_5) => G X cx 7 (Qm X cx (some (.inl rv)) m nx 0 0) (0) (0) m (nx) [some (.inr a0), some (.inl a1), some (.inl a2), some (.inl s3_5), some (.inl s4_5), none, none] [] 24) (fun q => q = r5) KB5 _ _ _ hr5 rfl
      exact G_sub F (L2 := [some (.inr a0), some (.inl a1), some (.inl a2), some (.inl (0 : Int32)), some (.inl (0 : Int32)), none, none]) ⟨rfl, ⟨rfl, ⟨rfl, ⟨rfl, ⟨rfl, trivial⟩⟩⟩⟩⟩ hI
    · have h := itt c4 h
      refine G_iconst F (v := (-1 : Int32)) dX0_justMissed_17 (by decide) ?_
      cases h
      exact G_iret F rfl (Nat.le_refl _) (Nat.le_refl _) rfl dX0_justMissed_18

theorem metX0_isAt (X : Gx) {m : Hp} {nx : Nat} {a0 : Option Nat} {a1 : Int32} {a2 : Int32} {rv : Int32} (h : fX0_isAt m a0 a1 a2 = some rv) : Con X (2) yX0_isAt cX0_isAt 3 ((Option.some FieldType.boolean)) [.inr a0, .inl a1, .inl a2] m nx (some (.inl rv)) m 0 0 := by
  refine Con.of (own := RX0) (nm := "isAt") (L := [some (.inr a0), some (.inl a1), some (.inl a2)]) (by decide +kernel) rfl rfl (Nat.le_of_ble_eq_true rfl) (ent_of 0 rfl) ?_
  intro cx F
  refine G_aload_n F dX0_isAt_0 rfl ?_
  obtain ⟨v1, e_v1, h⟩ := bnd h
  refine G_getR F okX0 (f := 0) (by decide) q328 rfl dX0_isAt_1 e_v1 ?_
  refine G_iload_n F dX0_isAt_4 rfl ?_
  obtain ⟨v2, e_v2, h⟩ := bnd h
  refine G_aald F (t := 5) (by decide) dX0_isAt_5 e_v2 ?_
  obtain ⟨v3, e_v3, h⟩ := bnd h
  refine G_getIN F okX6 (f := 4) (by decide) q313 rfl dX0_isAt_6 e_v3 ?_
  refine G_if_eq F (tgt := 30) dX0_isAt_9 (by decide) (fun c4 => ?_) (fun c4 => ?_)
  · have h := itt c4 h
    refine G_iconst F (v := (0 : Int32)) dX0_isAt_30 (by decide) ?_
    cases h
    exact G_zret F rfl (Or.inl rfl) (Nat.le_refl _) (Nat.le_refl _) rfl dX0_isAt_31
  · have h := itf c4 h
    refine G_aload_n F dX0_isAt_12 rfl ?_
    obtain ⟨v5, e_v5, h⟩ := bnd h
    refine G_getR F okX0 (f := 0) (by decide) q328 rfl dX0_isAt_13 e_v5 ?_
    refine G_iload_n F dX0_isAt_16 rfl ?_
    obtain ⟨v6, e_v6, h⟩ := bnd h
    refine G_aald F (t := 5) (by decide) dX0_isAt_17 e_v6 ?_
    refine G_iload_n F dX0_isAt_18 rfl ?_
    obtain ⟨v7, e_v7, h⟩ := bnd h
    obtain ⟨hc_v7, e_v7⟩ := hp_on_of e_v7
    refine G_callVv F (As := [.inl a2]) (st := []) (metX6_stopAt X e_v7) hc_v7 rfl rfl (lw_V q1120 q803 q804 q108 q805) hdfX6_stopAt ⟨by omega, by decide⟩ rfl (Nat.le_of_ble_eq_true rfl) ⟨by omega, by omega⟩ dX0_isAt_19 ?_
    refine G_iconst F (v := (-1 : Int32)) dX0_isAt_22 (by decide) ?_
    refine G_icmp_eq F (tgt := 30) dX0_isAt_23 (by decide) (fun c8 => ?_) (fun c8 => ?_)
    · have h := itt c8 h
      refine G_iconst F (v := (0 : Int32)) dX0_isAt_30 (by decide) ?_
      cases h
      exact G_zret F rfl (Or.inl rfl) (Nat.le_refl _) (Nat.le_refl _) rfl dX0_isAt_31
    · have h := itf c8 h
      refine G_iconst F (v := (1 : Int32)) dX0_isAt_26 (by decide) ?_
      refine G_goto F (tgt := 31) dX0_isAt_27 (by decide) ?_
      cases h
      exact G_zret F rfl (Or.inr rfl) (Nat.le_refl _) (Nat.le_refl _) rfl dX0_isAt_31

theorem metX0_platforms (X : Gx) {m : Hp} {nx : Nat} {a0 : Option Nat} {a1 : Int32} {a2 : Int32} {rv : Int32} (h : fX0_platforms m a0 a1 a2 = some rv) : Con X (3) yX0_platforms cX0_platforms 7 ((Option.some FieldType.int)) [.inr a0, .inl a1, .inl a2] m nx (some (.inl rv)) m 0 0 := by
  refine Con.of (own := RX0) (nm := "platforms") (L := [some (.inr a0), some (.inl a1), some (.inl a2), none, none, none, none]) (by decide +kernel) rfl rfl (Nat.le_of_ble_eq_true rfl) (ent_of 4 rfl) ?_
  intro cx F
  refine G_iload_n F dX0_platforms_0 rfl ?_
  obtain ⟨v1, e_v1, h⟩ := bnd h
  refine G_callSv F (As := [.inl a1]) (st := []) (metX0_isStation X e_v1) (lw_S q415 q416 q102 q417) hdfX0_isStation ⟨by omega, by decide⟩ rfl (Nat.le_of_ble_eq_true rfl) ⟨by omega, by omega⟩ dX0_platforms_1 ?_
  refine G_if_eq F (tgt := 17) dX0_platforms_4 (by decide) (fun c2 => ?_) (fun c2 => ?_)
  · have h := itt c2 h
    refine G_iconst F (v := (-1 : Int32)) dX0_platforms_17 (by decide) ?_
    cases h
    exact G_iret F rfl (Nat.le_refl _) (Nat.le_refl _) rfl dX0_platforms_18
  · have h := itf c2 h
    refine G_iload_n F dX0_platforms_7 rfl ?_
    refine G_iconst F (v := (0 : Int32)) dX0_platforms_8 (by decide) ?_
    refine G_bipush F (v := (60 : Int32)) dX0_platforms_9 (by decide) ?_
    obtain ⟨v3, e_v3, h⟩ := bnd h
    refine G_callSv F (As := [.inl a2, .inl (0 : Int32), .inl (60 : Int32)]) (st := []) (metX0_within X e_v3) (lw_S q422 q423 q102 q424) hdfX0_within ⟨by omega, by decide⟩ rfl (Nat.le_of_ble_eq_true rfl) ⟨by omega, by omega⟩ dX0_platforms_11 ?_
    refine G_if_ne F (tgt := 19) dX0_platforms_14 (by decide) (fun c4 => ?_) (fun c4 => ?_)
    · have h := itf c4 h
      refine G_iconst F (v := (0 : Int32)) dX0_platforms_19 (by decide) ?_
      refine G_istore_n F (L2 := [some (.inr a0), some (.inl a1), some (.inl a2), some (.inl (0 : Int32)), none, none, none]) dX0_platforms_20 (by decide) rfl ?_
      refine G_iconst F (v := (0 : Int32)) dX0_platforms_21 (by decide) ?_
      refine G_istore F (L2 := [some (.inr a0), some (.inl a1), some (.inl a2), some (.inl (0 : Int32)), some (.inl (0 : Int32)), none, none]) dX0_platforms_22 (by decide) rfl ?_
      obtain ⟨r5, hr5, h⟩ := bnd h
      have KE5 : ∀ (v24 : Int32), v24 = r5 → G X cx 7 (Qm X cx (some (.inl rv)) m nx 0 0) (0) (0) m (nx) [none, none, none, some (.inl v24), none, none, none] [] 131 := by
        intro v24 hq
        subst hq
        try dsimp only at h
        refine G_iload_n F dX0_platforms_131 rfl ?_
        cases h
        exact G_iret F rfl (Nat.le_refl _) (Nat.le_refl _) rfl dX0_platforms_132
      have KB5 : ∀ s o5, fX0_platforms_L24 m a0 a1 a2 s = some o5 → (∀ s', o5 = Sum.inl s' → (fun (s : (Int32 × Int32)) => match s with | (s3_5, s4_5) => G X cx 7 (Qm X cx (some (.inl rv)) m nx 0 0) (0) (0) m (nx) [some (.inr a0), some (.inl a1), some (.inl a2), some (.inl s3_5), some (.inl s4_5), none, none] [] 24) s') → (∀ q, o5 = Sum.inr q → q = r5) → (fun (s : (Int32 × Int32)) => match s with | (s3_5, s4_5) => G X cx 7 (Qm X cx (some (.inl rv)) m nx 0 0) (0) (0) m (nx) [some (.inr a0), some (.inl a1), some (.inl a2), some (.inl s3_5), some (.inl s4_5), none, none] [] 24) s := by
        intro s o5 h hP5 hE5
        obtain ⟨s3_5, s4_5⟩ := s
        try dsimp only at hP5 hE5 ⊢
        refine G_iload F dX0_platforms_24 rfl ?_
        refine G_aload_n F dX0_platforms_26 rfl ?_
        obtain ⟨v6, e_v6, h⟩ := bnd h
        refine G_getI F okX0 (f := 3) (by decide) q335 rfl dX0_platforms_27 e_v6 ?_
        refine G_icmp_ge F (tgt := 131) dX0_platforms_30 (by decide) (fun c7 => ?_) (fun c7 => ?_)
        · have h := itt c7 h
          cases h
          exact G_sub F (L2 := [none, none, none, some (.inl s3_5), none, none, none]) ⟨rfl, trivial⟩ (KE5 _ (hE5 _ rfl))
        · have h := itf c7 h
          refine G_aload_n F dX0_platforms_33 rfl ?_
          refine G_iload F dX0_platforms_34 rfl ?_
          refine G_iload_n F dX0_platforms_36 rfl ?_
          obtain ⟨v8, e_v8, h⟩ := bnd h
          obtain ⟨hc_v8, e_v8⟩ := hp_on_of e_v8
          refine G_callVv F (As := [.inl s4_5, .inl a1]) (st := []) (metX0_isAt X e_v8) hc_v8 rfl rfl (lw_V q1116 q1118 qs33 q102 q1119) hdfX0_isAt ⟨by omega, by decide⟩ rfl (Nat.le_of_ble_eq_true rfl) ⟨by omega, by omega⟩ dX0_platforms_37 ?_
          refine G_if_ne F (tgt := 46) dX0_platforms_40 (by decide) (fun c9 => ?_) (fun c9 => ?_)
          · have h := itf c9 h
            refine G_iconst F (v := (0 : Int32)) dX0_platforms_46 (by decide) ?_
            refine G_istore F (L2 := [some (.inr a0), some (.inl a1), some (.inl a2), some (.inl s3_5), some (.inl s4_5), some (.inl (0 : Int32)), none]) dX0_platforms_47 (by decide) rfl ?_
            refine G_iconst F (v := (0 : Int32)) dX0_platforms_49 (by decide) ?_
            refine G_istore F (L2 := [some (.inr a0), some (.inl a1), some (.inl a2), some (.inl s3_5), some (.inl s4_5), some (.inl (0 : Int32)), some (.inl (0 : Int32))]) dX0_platforms_50 (by decide) rfl ?_
            obtain ⟨r10, hr10, h⟩ := bnd h
            have KE10 : ∀ (v23 : Int32), v23 = r10 → G X cx 7 (Qm X cx (some (.inl rv)) m nx 0 0) (0) (0) m (nx) [some (.inr a0), some (.inl a1), some (.inl a2), some (.inl s3_5), some (.inl s4_5), some (.inl v23), none] [] 118 := by
              intro v23 hq
              subst hq
              try dsimp only at h
              refine G_iload_n F dX0_platforms_118 rfl ?_
              refine G_iload F dX0_platforms_119 rfl ?_
              refine G_mmax F q991 q514 q113 q515 (by omega) (Nat.le_of_ble_eq_true rfl) ⟨by omega, by omega⟩ dX0_platforms_121 ?_
              refine G_istore_n F (L2 := [some (.inr a0), some (.inl a1), some (.inl a2), some (.inl (jmax s3_5 v23)), some (.inl s4_5), some (.inl v23), none]) dX0_platforms_124 (by decide) rfl ?_
              refine G_iinc F (v := (s4_5 + (1 : Int32))) (L2 := [some (.inr a0), some (.inl a1), some (.inl a2), some (.inl (jmax s3_5 v23)), some (.inl (s4_5 + (1 : Int32))), some (.inl v23), none]) dX0_platforms_125 (by decide) rfl rfl rfl ?_
              refine G_goto F (tgt := 24) dX0_platforms_128 (by decide) ?_
              cases h
              exact G_sub F (L2 := [some (.inr a0), some (.inl a1), some (.inl a2), some (.inl (jmax s3_5 v23)), some (.inl (s4_5 + (1 : Int32))), none, none]) ⟨rfl, ⟨rfl, ⟨rfl, ⟨rfl, ⟨rfl, trivial⟩⟩⟩⟩⟩ (hP5 _ rfl)
            have KB10 : ∀ s o10, fX0_platforms_L52 m a0 a1 a2 s3_5 s4_5 s = some o10 → (∀ s', o10 = Sum.inl s' → (fun (s : (Int32 × Int32)) => match s with | (s5_10, s6_10) => G X cx 7 (Qm X cx (some (.inl rv)) m nx 0 0) (0) (0) m (nx) [some (.inr a0), some (.inl a1), some (.inl a2), some (.inl s3_5), some (.inl s4_5), some (.inl s5_10), some (.inl s6_10)] [] 52) s') → (∀ q, o10 = Sum.inr q → q = r10) → (fun (s : (Int32 × Int32)) => match s with | (s5_10, s6_10) => G X cx 7 (Qm X cx (some (.inl rv)) m nx 0 0) (0) (0) m (nx) [some (.inr a0), some (.inl a1), some (.inl a2), some (.inl s3_5), some (.inl s4_5), some (.inl s5_10), some (.inl s6_10)] [] 52) s := by
              intro s o10 h hP10 hE10
              obtain ⟨s5_10, s6_10⟩ := s
              try dsimp only at hP10 hE10 ⊢
              refine G_iload F dX0_platforms_52 rfl ?_
              refine G_aload_n F dX0_platforms_54 rfl ?_
              obtain ⟨v11, e_v11, h⟩ := bnd h
              refine G_getI F okX0 (f := 3) (by decide) q335 rfl dX0_platforms_55 e_v11 ?_
              refine G_icmp_ge F (tgt := 118) dX0_platforms_58 (by decide) (fun c12 => ?_) (fun c12 => ?_)
              · have h := itt c12 h
                cases h
                exact G_sub F (L2 := [some (.inr a0), some (.inl a1), some (.inl a2), some (.inl s3_5), some (.inl s4_5), some (.inl s5_10), none]) ⟨rfl, ⟨rfl, ⟨rfl, ⟨rfl, ⟨rfl, ⟨rfl, trivial⟩⟩⟩⟩⟩⟩ (KE10 _ (hE10 _ rfl))
              · have h := itf c12 h
                refine G_iload F dX0_platforms_61 rfl ?_
                refine G_aload_n F dX0_platforms_63 rfl ?_
                refine G_iload F dX0_platforms_64 rfl ?_
                refine G_iload_n F dX0_platforms_66 rfl ?_
                obtain ⟨v13, e_v13, h⟩ := bnd h
                obtain ⟨hc_v13, e_v13⟩ := hp_on_of e_v13
                refine G_callVv F (As := [.inl s6_10, .inl a1]) (st := [.inl s5_10]) (metX0_isAt X e_v13) hc_v13 rfl rfl (lw_V q1116 q1118 qs33 q102 q1119) hdfX0_isAt ⟨by omega, by decide⟩ rfl (Nat.le_of_ble_eq_true rfl) ⟨by omega, by omega⟩ dX0_platforms_67 ?_
                refine G_if_eq F (tgt := 108) dX0_platforms_70 (by decide) (fun c14 => ?_) (fun c14 => ?_)
                · have h := itt c14 h
                  refine G_iconst F (v := (0 : Int32)) dX0_platforms_108 (by decide) ?_
                  refine G_iadd F dX0_platforms_109 ?_
                  refine G_istore F (L2 := [some (.inr a0), some (.inl a1), some (.inl a2), some (.inl s3_5), some (.inl s4_5), some (.inl (s5_10 + (0 : Int32))), some (.inl s6_10)]) dX0_platforms_110 (by decide) rfl ?_
                  refine G_iinc F (v := (s6_10 + (1 : Int32))) (L2 := [some (.inr a0), some (.inl a1), some (.inl a2), some (.inl s3_5), some (.inl s4_5), some (.inl (s5_10 + (0 : Int32))), some (.inl (s6_10 + (1 : Int32)))]) dX0_platforms_112 (by decide) rfl rfl rfl ?_
                  refine G_goto F (tgt := 52) dX0_platforms_115 (by decide) ?_
                  cases h
                  exact G_sub F (L2 := [some (.inr a0), some (.inl a1), some (.inl a2), some (.inl s3_5), some (.inl s4_5), some (.inl (s5_10 + (0 : Int32))), some (.inl (s6_10 + (1 : Int32)))]) ⟨rfl, ⟨rfl, ⟨rfl, ⟨rfl, ⟨rfl, ⟨rfl, ⟨rfl, trivial⟩⟩⟩⟩⟩⟩⟩ (hP10 _ rfl)
                · have h := itf c14 h
                  refine G_aload_n F dX0_platforms_73 rfl ?_
                  obtain ⟨v15, e_v15, h⟩ := bnd h
                  refine G_getR F okX0 (f := 0) (by decide) q328 rfl dX0_platforms_74 e_v15 ?_
                  refine G_iload F dX0_platforms_77 rfl ?_
                  obtain ⟨v16, e_v16, h⟩ := bnd h
                  refine G_aald F (t := 5) (by decide) dX0_platforms_79 e_v16 ?_
                  refine G_iload_n F dX0_platforms_80 rfl ?_
                  obtain ⟨v17, e_v17, h⟩ := bnd h
                  obtain ⟨hc_v17, e_v17⟩ := hp_on_of e_v17
                  refine G_callVv F (As := [.inl a1]) (st := [.inl s5_10]) (metX6_minuteAt X e_v17) hc_v17 rfl rfl (lw_V q1072 q1073 q1074 q108 q1075) hdfX6_minuteAt ⟨by omega, by decide⟩ rfl (Nat.le_of_ble_eq_true rfl) ⟨by omega, by omega⟩ dX0_platforms_81 ?_
                  refine G_aload_n F dX0_platforms_84 rfl ?_
                  obtain ⟨v18, e_v18, h⟩ := bnd h
                  refine G_getR F okX0 (f := 0) (by decide) q328 rfl dX0_platforms_85 e_v18 ?_
                  refine G_iload F dX0_platforms_88 rfl ?_
                  obtain ⟨v19, e_v19, h⟩ := bnd h
                  refine G_aald F (t := 5) (by decide) dX0_platforms_90 e_v19 ?_
                  refine G_iload_n F dX0_platforms_91 rfl ?_
                  obtain ⟨v20, e_v20, h⟩ := bnd h
                  obtain ⟨hc_v20, e_v20⟩ := hp_on_of e_v20
                  refine G_callVv F (As := [.inl a1]) (st := [.inl v17, .inl s5_10]) (metX6_minuteAt X e_v20) hc_v20 rfl rfl (lw_V q1072 q1073 q1074 q108 q1075) hdfX6_minuteAt ⟨by omega, by decide⟩ rfl (Nat.le_of_ble_eq_true rfl) ⟨by omega, by omega⟩ dX0_platforms_92 ?_
                  refine G_isub F dX0_platforms_95 ?_
                  refine G_iconst F (v := (0 : Int32)) dX0_platforms_96 (by decide) ?_
                  refine G_iload_n F dX0_platforms_97 rfl ?_
                  obtain ⟨v21, e_v21, h⟩ := bnd h
                  refine G_callSv F (As := [.inl (v17 - v20), .inl (0 : Int32), .inl a2]) (st := [.inl s5_10]) (metX0_within X e_v21) (lw_S q422 q423 q102 q424) hdfX0_within ⟨by omega, by decide⟩ rfl (Nat.le_of_ble_eq_true rfl) ⟨by omega, by omega⟩ dX0_platforms_98 ?_
                  refine G_if_eq F (tgt := 108) dX0_platforms_101 (by decide) (fun c22 => ?_) (fun c22 => ?_)
                  · have h := itt c22 h
                    refine G_iconst F (v := (0 : Int32)) dX0_platforms_108 (by decide) ?_
                    refine G_iadd F dX0_platforms_109 ?_
                    refine G_istore F (L2 := [some (.inr a0), some (.inl a1), some (.inl a2), some (.inl s3_5), some (.inl s4_5), some (.inl (s5_10 + (0 : Int32))), some (.inl s6_10)]) dX0_platforms_110 (by decide) rfl ?_
                    refine G_iinc F (v := (s6_10 + (1 : Int32))) (L2 := [some (.inr a0), some (.inl a1), some (.inl a2), some (.inl s3_5), some (.inl s4_5), some (.inl (s5_10 + (0 : Int32))), some (.inl (s6_10 + (1 : Int32)))]) dX0_platforms_112 (by decide) rfl rfl rfl ?_
                    refine G_goto F (tgt := 52) dX0_platforms_115 (by decide) ?_
                    cases h
                    exact G_sub F (L2 := [some (.inr a0), some (.inl a1), some (.inl a2), some (.inl s3_5), some (.inl s4_5), some (.inl (s5_10 + (0 : Int32))), some (.inl (s6_10 + (1 : Int32)))]) ⟨rfl, ⟨rfl, ⟨rfl, ⟨rfl, ⟨rfl, ⟨rfl, ⟨rfl, trivial⟩⟩⟩⟩⟩⟩⟩ (hP10 _ rfl)
                  · have h := itf c22 h
                    refine G_iconst F (v := (1 : Int32)) dX0_platforms_104 (by decide) ?_
                    refine G_goto F (tgt := 109) dX0_platforms_105 (by decide) ?_
                    refine G_iadd F dX0_platforms_109 ?_
                    refine G_istore F (L2 := [some (.inr a0), some (.inl a1), some (.inl a2), some (.inl s3_5), some (.inl s4_5), some (.inl (s5_10 + (1 : Int32))), some (.inl s6_10)]) dX0_platforms_110 (by decide) rfl ?_
                    refine G_iinc F (v := (s6_10 + (1 : Int32))) (L2 := [some (.inr a0), some (.inl a1), some (.inl a2), some (.inl s3_5), some (.inl s4_5), some (.inl (s5_10 + (1 : Int32))), some (.inl (s6_10 + (1 : Int32)))]) dX0_platforms_112 (by decide) rfl rfl rfl ?_
                    refine G_goto F (tgt := 52) dX0_platforms_115 (by decide) ?_
                    cases h
                    exact G_sub F (L2 := [some (.inr a0), some (.inl a1), some (.inl a2), some (.inl s3_5), some (.inl s4_5), some (.inl (s5_10 + (1 : Int32))), some (.inl (s6_10 + (1 : Int32)))]) ⟨rfl, ⟨rfl, ⟨rfl, ⟨rfl, ⟨rfl, ⟨rfl, ⟨rfl, trivial⟩⟩⟩⟩⟩⟩⟩ (hP10 _ rfl)
            have hI := iter_ok (fun (s : (Int32 × Int32)) => match s with | (s5_10, s6_10) => G X cx 7 (Qm X cx (some (.inl rv)) m nx 0 0) (0) (0) m (nx) [some (.inr a0), some (.inl a1), some (.inl a2), some (.inl s3_5), some (.inl s4_5), some (.inl s5_10), some (.inl s6_10)] [] 52) (fun q => q = r10) KB10 _ _ _ hr10 rfl
            exact G_sub F (L2 := [some (.inr a0), some (.inl a1), some (.inl a2), some (.inl s3_5), some (.inl s4_5), some (.inl (0 : Int32)), some (.inl (0 : Int32))]) ⟨rfl, ⟨rfl, ⟨rfl, ⟨rfl, ⟨rfl, ⟨rfl, ⟨rfl, trivial⟩⟩⟩⟩⟩⟩⟩ hI
          · have h := itt c9 h
            refine G_goto F (tgt := 125) dX0_platforms_43 (by decide) ?_
            refine G_iinc F (v := (s4_5 + (1 : Int32))) (L2 := [some (.inr a0), some (.inl a1), some (.inl a2), some (.inl s3_5), some (.inl (s4_5 + (1 : Int32))), none, none]) dX0_platforms_125 (by decide) rfl rfl rfl ?_
            refine G_goto F (tgt := 24) dX0_platforms_128 (by decide) ?_
            cases h
            exact G_sub F (L2 := [some (.inr a0), some (.inl a1), some (.inl a2), some (.inl s3_5), some (.inl (s4_5 + (1 : Int32))), none, none]) ⟨rfl, ⟨rfl, ⟨rfl, ⟨rfl, ⟨rfl, trivial⟩⟩⟩⟩⟩ (hP5 _ rfl)
      have hI := iter_ok (fun (s : (Int32 × Int32)) => match s with | (s3_5, s4_5) => G X cx 7 (Qm X cx (some (.inl rv)) m nx 0 0) (0) (0) m (nx) [some (.inr a0), some (.inl a1), some (.inl a2), some (.inl s3_5), some (.inl s4_5), none, none] [] 24) (fun q => q = r5) KB5 _ _ _ hr5 rfl
      exact G_sub F (L2 := [some (.inr a0), some (.inl a1), some (.inl a2), some (.inl (0 : Int32)), some (.inl (0 : Int32)), none, none]) ⟨rfl, ⟨rfl, ⟨rfl, ⟨rfl, ⟨rfl, trivial⟩⟩⟩⟩⟩ hI
    · have h := itt c4 h
      refine G_iconst F (v := (-1 : Int32)) dX0_platforms_17 (by decide) ?_
      cases h
      exact G_iret F rfl (Nat.le_refl _) (Nat.le_refl _) rfl dX0_platforms_18

theorem metX0_canFollow (X : Gx) {m : Hp} {nx : Nat} {a0 : Option Nat} {a1 : Int32} {a2 : Int32} {rv : Int32} (h : fX0_canFollow m a0 a1 a2 = some rv) : Con X (2) yX0_canFollow cX0_canFollow 3 ((Option.some FieldType.boolean)) [.inr a0, .inl a1, .inl a2] m nx (some (.inl rv)) m 0 0 := by
  refine Con.of (own := RX0) (nm := "canFollow") (L := [some (.inr a0), some (.inl a1), some (.inl a2)]) (by decide +kernel) rfl rfl (Nat.le_of_ble_eq_true rfl) (ent_of 0 rfl) ?_
  intro cx F
  refine G_aload_n F dX0_canFollow_0 rfl ?_
  obtain ⟨v1, e_v1, h⟩ := bnd h
  refine G_getR F okX0 (f := 0) (by decide) q328 rfl dX0_canFollow_1 e_v1 ?_
  refine G_iload_n F dX0_canFollow_4 rfl ?_
  obtain ⟨v2, e_v2, h⟩ := bnd h
  refine G_aald F (t := 5) (by decide) dX0_canFollow_5 e_v2 ?_
  obtain ⟨v3, e_v3, h⟩ := bnd h
  refine G_getIN F okX6 (f := 4) (by decide) q313 rfl dX0_canFollow_6 e_v3 ?_
  refine G_if_eq F (tgt := 77) dX0_canFollow_9 (by decide) (fun c4 => ?_) (fun c4 => ?_)
  · have h := itt c4 h
    refine G_iconst F (v := (0 : Int32)) dX0_canFollow_77 (by decide) ?_
    cases h
    exact G_zret F rfl (Or.inl rfl) (Nat.le_refl _) (Nat.le_refl _) rfl dX0_canFollow_78
  · have h := itf c4 h
    refine G_aload_n F dX0_canFollow_12 rfl ?_
    obtain ⟨v5, e_v5, h⟩ := bnd h
    refine G_getR F okX0 (f := 0) (by decide) q328 rfl dX0_canFollow_13 e_v5 ?_
    refine G_iload_n F dX0_canFollow_16 rfl ?_
    obtain ⟨v6, e_v6, h⟩ := bnd h
    refine G_aald F (t := 5) (by decide) dX0_canFollow_17 e_v6 ?_
    obtain ⟨v7, e_v7, h⟩ := bnd h
    refine G_getIN F okX6 (f := 4) (by decide) q313 rfl dX0_canFollow_18 e_v7 ?_
    refine G_if_eq F (tgt := 77) dX0_canFollow_21 (by decide) (fun c8 => ?_) (fun c8 => ?_)
    · have h := itt c8 h
      refine G_iconst F (v := (0 : Int32)) dX0_canFollow_77 (by decide) ?_
      cases h
      exact G_zret F rfl (Or.inl rfl) (Nat.le_refl _) (Nat.le_refl _) rfl dX0_canFollow_78
    · have h := itf c8 h
      refine G_aload_n F dX0_canFollow_24 rfl ?_
      obtain ⟨v9, e_v9, h⟩ := bnd h
      refine G_getR F okX0 (f := 0) (by decide) q328 rfl dX0_canFollow_25 e_v9 ?_
      refine G_iload_n F dX0_canFollow_28 rfl ?_
      obtain ⟨v10, e_v10, h⟩ := bnd h
      refine G_aald F (t := 5) (by decide) dX0_canFollow_29 e_v10 ?_
      obtain ⟨v11, e_v11, h⟩ := bnd h
      obtain ⟨hc_v11, e_v11⟩ := hp_on_of e_v11
      refine G_callVv F (As := []) (st := []) (metX6_last X e_v11) hc_v11 rfl rfl (lw_V q1041 q1042 q1043 q108 q1044) hdfX6_last ⟨by omega, by decide⟩ rfl (Nat.le_of_ble_eq_true rfl) ⟨by omega, by omega⟩ dX0_canFollow_30 ?_
      refine G_aload_n F dX0_canFollow_33 rfl ?_
      obtain ⟨v12, e_v12, h⟩ := bnd h
      refine G_getR F okX0 (f := 0) (by decide) q328 rfl dX0_canFollow_34 e_v12 ?_
      refine G_iload_n F dX0_canFollow_37 rfl ?_
      obtain ⟨v13, e_v13, h⟩ := bnd h
      refine G_aald F (t := 5) (by decide) dX0_canFollow_38 e_v13 ?_
      obtain ⟨v14, e_v14, h⟩ := bnd h
      obtain ⟨hc_v14, e_v14⟩ := hp_on_of e_v14
      refine G_callVv F (As := []) (st := [.inl v11]) (metX6_first X e_v14) hc_v14 rfl rfl (lw_V q1037 q1038 q1039 q108 q1040) hdfX6_first ⟨by omega, by decide⟩ rfl (Nat.le_of_ble_eq_true rfl) ⟨by omega, by omega⟩ dX0_canFollow_39 ?_
      refine G_icmp_ne F (tgt := 77) dX0_canFollow_42 (by decide) (fun c15 => ?_) (fun c15 => ?_)
      · have h := itf c15 h
        refine G_iconst F (v := (0 : Int32)) dX0_canFollow_77 (by decide) ?_
        cases h
        exact G_zret F rfl (Or.inl rfl) (Nat.le_refl _) (Nat.le_refl _) rfl dX0_canFollow_78
      · have h := itt c15 h
        refine G_aload_n F dX0_canFollow_45 rfl ?_
        obtain ⟨v16, e_v16, h⟩ := bnd h
        refine G_getR F okX0 (f := 0) (by decide) q328 rfl dX0_canFollow_46 e_v16 ?_
        refine G_iload_n F dX0_canFollow_49 rfl ?_
        obtain ⟨v17, e_v17, h⟩ := bnd h
        refine G_aald F (t := 5) (by decide) dX0_canFollow_50 e_v17 ?_
        obtain ⟨v18, e_v18, h⟩ := bnd h
        obtain ⟨hc_v18, e_v18⟩ := hp_on_of e_v18
        refine G_callVv F (As := []) (st := []) (metX6_ends X e_v18) hc_v18 rfl rfl (lw_V q1045 q827 q828 q108 q829) hdfX6_ends ⟨by omega, by decide⟩ rfl (Nat.le_of_ble_eq_true rfl) ⟨by omega, by omega⟩ dX0_canFollow_51 ?_
        refine G_aload_n F dX0_canFollow_54 rfl ?_
        obtain ⟨v19, e_v19, h⟩ := bnd h
        refine G_getI F okX0 (f := 5) (by decide) q339 rfl dX0_canFollow_55 e_v19 ?_
        refine G_iadd F dX0_canFollow_58 ?_
        refine G_aload_n F dX0_canFollow_59 rfl ?_
        obtain ⟨v20, e_v20, h⟩ := bnd h
        refine G_getR F okX0 (f := 0) (by decide) q328 rfl dX0_canFollow_60 e_v20 ?_
        refine G_iload_n F dX0_canFollow_63 rfl ?_
        obtain ⟨v21, e_v21, h⟩ := bnd h
        refine G_aald F (t := 5) (by decide) dX0_canFollow_64 e_v21 ?_
        obtain ⟨v22, e_v22, h⟩ := bnd h
        refine G_getRN F okX6 (f := 1) (by decide) q301 rfl dX0_canFollow_65 e_v22 ?_
        refine G_iconst F (v := (0 : Int32)) dX0_canFollow_68 (by decide) ?_
        obtain ⟨v23, e_v23, h⟩ := bnd h
        refine G_iald F dX0_canFollow_69 e_v23 ?_
        refine G_icmp_gt F (tgt := 77) dX0_canFollow_70 (by decide) (fun c24 => ?_) (fun c24 => ?_)
        · have h := itt c24 h
          refine G_iconst F (v := (0 : Int32)) dX0_canFollow_77 (by decide) ?_
          cases h
          exact G_zret F rfl (Or.inl rfl) (Nat.le_refl _) (Nat.le_refl _) rfl dX0_canFollow_78
        · have h := itf c24 h
          refine G_iconst F (v := (1 : Int32)) dX0_canFollow_73 (by decide) ?_
          refine G_goto F (tgt := 78) dX0_canFollow_74 (by decide) ?_
          cases h
          exact G_zret F rfl (Or.inr rfl) (Nat.le_refl _) (Nat.le_refl _) rfl dX0_canFollow_78

theorem metX0_findsB (X : Gx) {dr : Nat} (hdr : 30 ≤ dr) {rec : Hp → Option Nat → Int32 → Option (Int32 × Hp)} (hrec : ∀ {m : Hp} {nx : Nat} {a0 : Option Nat} {a1 : Int32} {rv : Int32} {m_ : Hp}, rec m a0 a1 = some (rv, m_) → Con X (dr) yX0_finds cX0_finds 3 (Option.some FieldType.boolean) [.inr a0, .inl a1] m nx (some (.inl rv)) m_ 0 0) {m : Hp} {nx : Nat} {a0 : Option Nat} {a1 : Int32} {rv : Int32} {m_ : Hp} (h : fX0_findsB rec m a0 a1 = some (rv, m_)) : Con X (dr + 1) yX0_finds cX0_finds 3 ((Option.some FieldType.boolean)) [.inr a0, .inl a1] m nx (some (.inl rv)) m_ 0 0 := by
  refine Con.of (own := RX0) (nm := "finds") (L := [some (.inr a0), some (.inl a1), none]) (by decide +kernel) rfl rfl (Nat.le_of_ble_eq_true rfl) (ent_of 1 rfl) ?_
  intro cx F
  refine G_iconst F (v := (0 : Int32)) dX0_finds_0 (by decide) ?_
  refine G_istore_n F (L2 := [some (.inr a0), some (.inl a1), some (.inl (0 : Int32))]) dX0_finds_1 (by decide) rfl ?_
  obtain ⟨r1, hr1, h⟩ := bnd h
  have KE1 : ∀ (m23 : Hp), Sum.inl m23 = r1 → G X cx 3 (Qm X cx (some (.inl rv)) m_ nx 0 0) (0) (0) m23 (nx) [none, none, none] [] 79 := by
    intro m23 hq
    subst hq
    try dsimp only at h
    refine G_iconst F (v := (0 : Int32)) dX0_finds_79 (by decide) ?_
    cases h
    exact G_zret F rfl (Or.inl rfl) (Nat.le_refl _) (Nat.le_refl _) rfl dX0_finds_80
  have KR1 : ∀ q, Sum.inr q = r1 → some q = some (rv, m_) := by
    intro q hq
    subst hq
    exact h
  have KB1 : ∀ s o1, fX0_findsB_L2 rec a0 a1 s = some o1 → (∀ s', o1 = Sum.inl s' → (fun (s : (Int32 × Hp)) => match s with | (s2_1, m1) => G X cx 3 (Qm X cx (some (.inl rv)) m_ nx 0 0) (0) (0) m1 (nx) [some (.inr a0), some (.inl a1), some (.inl s2_1)] [] 2) s') → (∀ q, o1 = Sum.inr q → q = r1) → (fun (s : (Int32 × Hp)) => match s with | (s2_1, m1) => G X cx 3 (Qm X cx (some (.inl rv)) m_ nx 0 0) (0) (0) m1 (nx) [some (.inr a0), some (.inl a1), some (.inl s2_1)] [] 2) s := by
    intro s o1 h hP1 hE1
    obtain ⟨s2_1, m1⟩ := s
    try dsimp only at hP1 hE1 ⊢
    refine G_iload_n F dX0_finds_2 rfl ?_
    refine G_aload_n F dX0_finds_3 rfl ?_
    obtain ⟨v2, e_v2, h⟩ := bnd h
    refine G_getI F okX0 (f := 3) (by decide) q335 rfl dX0_finds_4 e_v2 ?_
    refine G_icmp_ge F (tgt := 79) dX0_finds_7 (by decide) (fun c3 => ?_) (fun c3 => ?_)
    · have h := itt c3 h
      cases h
      exact G_sub F (L2 := [none, none, none]) trivial (KE1 _ (hE1 _ rfl))
    · have h := itf c3 h
      refine G_aload_n F dX0_finds_10 rfl ?_
      obtain ⟨v4, e_v4, h⟩ := bnd h
      refine G_getR F okX0 (f := 19) (by decide) q357 rfl dX0_finds_11 e_v4 ?_
      refine G_iload_n F dX0_finds_14 rfl ?_
      obtain ⟨v5, e_v5, h⟩ := bnd h
      refine G_zald F dX0_finds_15 e_v5 ?_
      refine G_if_ne F (tgt := 73) dX0_finds_16 (by decide) (fun c6 => ?_) (fun c6 => ?_)
      · have h := itf c6 h
        refine G_iinc F (v := (s2_1 + (1 : Int32))) (L2 := [some (.inr a0), some (.inl a1), some (.inl (s2_1 + (1 : Int32)))]) dX0_finds_73 (by decide) rfl rfl rfl ?_
        refine G_goto F (tgt := 2) dX0_finds_76 (by decide) ?_
        cases h
        exact G_sub F (L2 := [some (.inr a0), some (.inl a1), some (.inl (s2_1 + (1 : Int32)))]) ⟨rfl, ⟨rfl, ⟨rfl, trivial⟩⟩⟩ (hP1 _ rfl)
      · have h := itt c6 h
        refine G_aload_n F dX0_finds_19 rfl ?_
        refine G_iload_n F dX0_finds_20 rfl ?_
        refine G_iload_n F dX0_finds_21 rfl ?_
        obtain ⟨v7, e_v7, h⟩ := bnd h
        obtain ⟨hc_v7, e_v7⟩ := hp_on_of e_v7
        refine G_callVv F (As := [.inl a1, .inl s2_1]) (st := []) (metX0_canFollow X e_v7) hc_v7 rfl rfl (lw_V q1133 q1135 qs36 q102 q1136) hdfX0_canFollow ⟨by omega, by decide⟩ rfl (Nat.le_of_ble_eq_true rfl) ⟨by omega, by omega⟩ dX0_finds_22 ?_
        refine G_if_ne F (tgt := 31) dX0_finds_25 (by decide) (fun c8 => ?_) (fun c8 => ?_)
        · have h := itf c8 h
          refine G_aload_n F dX0_finds_31 rfl ?_
          obtain ⟨v9, e_v9, h⟩ := bnd h
          refine G_getR F okX0 (f := 19) (by decide) q357 rfl dX0_finds_32 e_v9 ?_
          refine G_iload_n F dX0_finds_35 rfl ?_
          refine G_iconst F (v := (1 : Int32)) dX0_finds_36 (by decide) ?_
          obtain ⟨m10, e_m10, h⟩ := bnd h
          refine G_zast F dX0_finds_37 e_m10 ?_
          refine G_aload_n F dX0_finds_38 rfl ?_
          obtain ⟨v11, e_v11, h⟩ := bnd h
          refine G_getR F okX0 (f := 18) (by decide) q356 rfl dX0_finds_39 e_v11 ?_
          refine G_iload_n F dX0_finds_42 rfl ?_
          obtain ⟨v12, e_v12, h⟩ := bnd h
          refine G_iald F dX0_finds_43 e_v12 ?_
          refine G_iconst F (v := (-1 : Int32)) dX0_finds_44 (by decide) ?_
          refine G_icmp_eq F (tgt := 64) dX0_finds_45 (by decide) (fun c13 => ?_) (fun c13 => ?_)
          · have h := itt c13 h
            refine G_aload_n F dX0_finds_64 rfl ?_
            obtain ⟨v14, e_v14, h⟩ := bnd h
            refine G_getR F okX0 (f := 18) (by decide) q356 rfl dX0_finds_65 e_v14 ?_
            refine G_iload_n F dX0_finds_68 rfl ?_
            refine G_iload_n F dX0_finds_69 rfl ?_
            obtain ⟨m15, e_m15, h⟩ := bnd h
            refine G_iast F dX0_finds_70 e_m15 ?_
            refine G_iconst F (v := (1 : Int32)) dX0_finds_71 (by decide) ?_
            cases h
            have h := KR1 _ (hE1 _ rfl)
            cases h
            exact G_zret F rfl (Or.inr rfl) (Nat.le_refl _) (Nat.le_refl _) rfl dX0_finds_72
          · have h := itf c13 h
            refine G_aload_n F dX0_finds_48 rfl ?_
            refine G_aload_n F dX0_finds_49 rfl ?_
            obtain ⟨v16, e_v16, h⟩ := bnd h
            refine G_getR F okX0 (f := 18) (by decide) q356 rfl dX0_finds_50 e_v16 ?_
            refine G_iload_n F dX0_finds_53 rfl ?_
            obtain ⟨v17, e_v17, h⟩ := bnd h
            refine G_iald F dX0_finds_54 e_v17 ?_
            obtain ⟨⟨v18, m19⟩, e_v18, h⟩ := bnd h
            obtain ⟨hc_v18, e_v18⟩ := hp_on_of e_v18
            refine G_callVv F (As := [.inl v17]) (st := []) (hrec e_v18) hc_v18 rfl rfl (lw_V q1129 q1131 qs35 q102 q1132) hdfX0_findsB ⟨by omega, by decide⟩ rfl (Nat.le_of_ble_eq_true rfl) ⟨by omega, by omega⟩ dX0_finds_55 ?_
            refine G_if_ne F (tgt := 64) dX0_finds_58 (by decide) (fun c20 => ?_) (fun c20 => ?_)
            · have h := itf c20 h
              refine G_aload_n F dX0_finds_64 rfl ?_
              obtain ⟨v21, e_v21, h⟩ := bnd h
              refine G_getR F okX0 (f := 18) (by decide) q356 rfl dX0_finds_65 e_v21 ?_
              refine G_iload_n F dX0_finds_68 rfl ?_
              refine G_iload_n F dX0_finds_69 rfl ?_
              obtain ⟨m22, e_m22, h⟩ := bnd h
              refine G_iast F dX0_finds_70 e_m22 ?_
              refine G_iconst F (v := (1 : Int32)) dX0_finds_71 (by decide) ?_
              cases h
              have h := KR1 _ (hE1 _ rfl)
              cases h
              exact G_zret F rfl (Or.inr rfl) (Nat.le_refl _) (Nat.le_refl _) rfl dX0_finds_72
            · have h := itt c20 h
              refine G_goto F (tgt := 73) dX0_finds_61 (by decide) ?_
              refine G_iinc F (v := (s2_1 + (1 : Int32))) (L2 := [some (.inr a0), some (.inl a1), some (.inl (s2_1 + (1 : Int32)))]) dX0_finds_73 (by decide) rfl rfl rfl ?_
              refine G_goto F (tgt := 2) dX0_finds_76 (by decide) ?_
              cases h
              exact G_sub F (L2 := [some (.inr a0), some (.inl a1), some (.inl (s2_1 + (1 : Int32)))]) ⟨rfl, ⟨rfl, ⟨rfl, trivial⟩⟩⟩ (hP1 _ rfl)
        · have h := itt c8 h
          refine G_goto F (tgt := 73) dX0_finds_28 (by decide) ?_
          refine G_iinc F (v := (s2_1 + (1 : Int32))) (L2 := [some (.inr a0), some (.inl a1), some (.inl (s2_1 + (1 : Int32)))]) dX0_finds_73 (by decide) rfl rfl rfl ?_
          refine G_goto F (tgt := 2) dX0_finds_76 (by decide) ?_
          cases h
          exact G_sub F (L2 := [some (.inr a0), some (.inl a1), some (.inl (s2_1 + (1 : Int32)))]) ⟨rfl, ⟨rfl, ⟨rfl, trivial⟩⟩⟩ (hP1 _ rfl)
  have hI := iter_ok (fun (s : (Int32 × Hp)) => match s with | (s2_1, m1) => G X cx 3 (Qm X cx (some (.inl rv)) m_ nx 0 0) (0) (0) m1 (nx) [some (.inr a0), some (.inl a1), some (.inl s2_1)] [] 2) (fun q => q = r1) KB1 _ _ _ hr1 rfl
  exact G_sub F (L2 := [some (.inr a0), some (.inl a1), some (.inl (0 : Int32))]) ⟨rfl, ⟨rfl, ⟨rfl, trivial⟩⟩⟩ hI

theorem con_finds (X : Gx) : ∀ (n : Nat), ∀ {m : Hp} {nx : Nat} {a0 : Option Nat} {a1 : Int32} {rv : Int32} {m_ : Hp}, fX0_finds n m a0 a1 = some (rv, m_) → Con X (30 + n) yX0_finds cX0_finds 3 (Option.some FieldType.boolean) [.inr a0, .inl a1] m nx (some (.inl rv)) m_ 0 0 := by
  intro n
  induction n with
  | zero => intro _ _ _ _ _ _ h; cases h
  | succ n ih => intro _ _ _ _ _ _ h; exact metX0_findsB X (dr := 30 + n) (by omega) ih h

theorem metX0_running (X : Gx) {m : Hp} {nx : Nat} {a0 : Option Nat} {rv : Int32} (h : fX0_running m a0 = some rv) : Con X (1) yX0_running cX0_running 3 ((Option.some FieldType.int)) [.inr a0] m nx (some (.inl rv)) m 0 0 := by
  refine Con.of (own := RX0) (nm := "running") (L := [some (.inr a0), none, none]) (by decide +kernel) rfl rfl (Nat.le_of_ble_eq_true rfl) (ent_of 2 rfl) ?_
  intro cx F
  refine G_iconst F (v := (0 : Int32)) dX0_running_0 (by decide) ?_
  refine G_istore_n F (L2 := [some (.inr a0), some (.inl (0 : Int32)), none]) dX0_running_1 (by decide) rfl ?_
  refine G_iconst F (v := (0 : Int32)) dX0_running_2 (by decide) ?_
  refine G_istore_n F (L2 := [some (.inr a0), some (.inl (0 : Int32)), some (.inl (0 : Int32))]) dX0_running_3 (by decide) rfl ?_
  obtain ⟨r1, hr1, h⟩ := bnd h
  have KE1 : ∀ (v8 : Int32), v8 = r1 → G X cx 3 (Qm X cx (some (.inl rv)) m nx 0 0) (0) (0) m (nx) [none, some (.inl v8), none] [] 38 := by
    intro v8 hq
    subst hq
    try dsimp only at h
    refine G_iload_n F dX0_running_38 rfl ?_
    cases h
    exact G_iret F rfl (Nat.le_refl _) (Nat.le_refl _) rfl dX0_running_39
  have KB1 : ∀ s o1, fX0_running_L4 m a0 s = some o1 → (∀ s', o1 = Sum.inl s' → (fun (s : (Int32 × Int32)) => match s with | (s1_1, s2_1) => G X cx 3 (Qm X cx (some (.inl rv)) m nx 0 0) (0) (0) m (nx) [some (.inr a0), some (.inl s1_1), some (.inl s2_1)] [] 4) s') → (∀ q, o1 = Sum.inr q → q = r1) → (fun (s : (Int32 × Int32)) => match s with | (s1_1, s2_1) => G X cx 3 (Qm X cx (some (.inl rv)) m nx 0 0) (0) (0) m (nx) [some (.inr a0), some (.inl s1_1), some (.inl s2_1)] [] 4) s := by
    intro s o1 h hP1 hE1
    obtain ⟨s1_1, s2_1⟩ := s
    try dsimp only at hP1 hE1 ⊢
    refine G_iload_n F dX0_running_4 rfl ?_
    refine G_aload_n F dX0_running_5 rfl ?_
    obtain ⟨v2, e_v2, h⟩ := bnd h
    refine G_getI F okX0 (f := 3) (by decide) q335 rfl dX0_running_6 e_v2 ?_
    refine G_icmp_ge F (tgt := 38) dX0_running_9 (by decide) (fun c3 => ?_) (fun c3 => ?_)
    · have h := itt c3 h
      cases h
      exact G_sub F (L2 := [none, some (.inl s1_1), none]) ⟨rfl, trivial⟩ (KE1 _ (hE1 _ rfl))
    · have h := itf c3 h
      refine G_iload_n F dX0_running_12 rfl ?_
      refine G_aload_n F dX0_running_13 rfl ?_
      obtain ⟨v4, e_v4, h⟩ := bnd h
      refine G_getR F okX0 (f := 0) (by decide) q328 rfl dX0_running_14 e_v4 ?_
      refine G_iload_n F dX0_running_17 rfl ?_
      obtain ⟨v5, e_v5, h⟩ := bnd h
      refine G_aald F (t := 5) (by decide) dX0_running_18 e_v5 ?_
      obtain ⟨v6, e_v6, h⟩ := bnd h
      refine G_getIN F okX6 (f := 4) (by decide) q313 rfl dX0_running_19 e_v6 ?_
      refine G_if_eq F (tgt := 29) dX0_running_22 (by decide) (fun c7 => ?_) (fun c7 => ?_)
      · have h := itt c7 h
        refine G_iconst F (v := (0 : Int32)) dX0_running_29 (by decide) ?_
        refine G_iadd F dX0_running_30 ?_
        refine G_istore_n F (L2 := [some (.inr a0), some (.inl (s1_1 + (0 : Int32))), some (.inl s2_1)]) dX0_running_31 (by decide) rfl ?_
        refine G_iinc F (v := (s2_1 + (1 : Int32))) (L2 := [some (.inr a0), some (.inl (s1_1 + (0 : Int32))), some (.inl (s2_1 + (1 : Int32)))]) dX0_running_32 (by decide) rfl rfl rfl ?_
        refine G_goto F (tgt := 4) dX0_running_35 (by decide) ?_
        cases h
        exact G_sub F (L2 := [some (.inr a0), some (.inl (s1_1 + (0 : Int32))), some (.inl (s2_1 + (1 : Int32)))]) ⟨rfl, ⟨rfl, ⟨rfl, trivial⟩⟩⟩ (hP1 _ rfl)
      · have h := itf c7 h
        refine G_iconst F (v := (1 : Int32)) dX0_running_25 (by decide) ?_
        refine G_goto F (tgt := 30) dX0_running_26 (by decide) ?_
        refine G_iadd F dX0_running_30 ?_
        refine G_istore_n F (L2 := [some (.inr a0), some (.inl (s1_1 + (1 : Int32))), some (.inl s2_1)]) dX0_running_31 (by decide) rfl ?_
        refine G_iinc F (v := (s2_1 + (1 : Int32))) (L2 := [some (.inr a0), some (.inl (s1_1 + (1 : Int32))), some (.inl (s2_1 + (1 : Int32)))]) dX0_running_32 (by decide) rfl rfl rfl ?_
        refine G_goto F (tgt := 4) dX0_running_35 (by decide) ?_
        cases h
        exact G_sub F (L2 := [some (.inr a0), some (.inl (s1_1 + (1 : Int32))), some (.inl (s2_1 + (1 : Int32)))]) ⟨rfl, ⟨rfl, ⟨rfl, trivial⟩⟩⟩ (hP1 _ rfl)
  have hI := iter_ok (fun (s : (Int32 × Int32)) => match s with | (s1_1, s2_1) => G X cx 3 (Qm X cx (some (.inl rv)) m nx 0 0) (0) (0) m (nx) [some (.inr a0), some (.inl s1_1), some (.inl s2_1)] [] 4) (fun q => q = r1) KB1 _ _ _ hr1 rfl
  exact G_sub F (L2 := [some (.inr a0), some (.inl (0 : Int32)), some (.inl (0 : Int32))]) ⟨rfl, ⟨rfl, ⟨rfl, trivial⟩⟩⟩ hI

theorem metX0_sets (X : Gx) {m : Hp} {nx : Nat} {a0 : Option Nat} {rv : Int32} {m_ : Hp} (h : fX0_sets m a0 = some (rv, m_)) : Con X (96) yX0_sets cX0_sets 4 ((Option.some FieldType.int)) [.inr a0] m nx (some (.inl rv)) m_ 0 0 := by
  refine Con.of (own := RX0) (nm := "sets") (L := [some (.inr a0), none, none, none]) (by decide +kernel) rfl rfl (Nat.le_of_ble_eq_true rfl) (ent_of 3 rfl) ?_
  intro cx F
  refine G_aload_n F dX0_sets_0 rfl ?_
  obtain ⟨v1, e_v1, h⟩ := bnd h
  obtain ⟨hc_v1, e_v1⟩ := hp_on_of e_v1
  refine G_callVv F (As := []) (st := []) (metX0_running X e_v1) hc_v1 rfl rfl (lw_V q1125 q1127 qs34 q102 q1128) hdfX0_running ⟨by omega, by decide⟩ rfl (Nat.le_of_ble_eq_true rfl) ⟨by omega, by omega⟩ dX0_sets_1 ?_
  refine G_istore_n F (L2 := [some (.inr a0), some (.inl v1), none, none]) dX0_sets_4 (by decide) rfl ?_
  refine G_iconst F (v := (0 : Int32)) dX0_sets_5 (by decide) ?_
  refine G_istore_n F (L2 := [some (.inr a0), some (.inl v1), some (.inl (0 : Int32)), none]) dX0_sets_6 (by decide) rfl ?_
  obtain ⟨r2, hr2, h⟩ := bnd h
  have KE2 : ∀ (m7 : Hp), m7 = r2 → G X cx 4 (Qm X cx (some (.inl rv)) m_ nx 0 0) (0) (0) m7 (nx) [some (.inr a0), some (.inl v1), none, none] [] 28 := by
    intro m7 hq
    subst hq
    try dsimp only at h
    refine G_iconst F (v := (0 : Int32)) dX0_sets_28 (by decide) ?_
    refine G_istore_n F (L2 := [some (.inr a0), some (.inl v1), some (.inl (0 : Int32)), none]) dX0_sets_29 (by decide) rfl ?_
    obtain ⟨r8, hr8, h⟩ := bnd h
    have KE8 : ∀ (v20 : Int32) (m21 : Hp), (v20, m21) = r8 → G X cx 4 (Qm X cx (some (.inl rv)) m_ nx 0 0) (0) (0) m21 (nx) [none, some (.inl v20), none, none] [] 83 := by
      intro v20 m21 hq
      subst hq
      try dsimp only at h
      refine G_iload_n F dX0_sets_83 rfl ?_
      cases h
      exact G_iret F rfl (Nat.le_refl _) (Nat.le_refl _) rfl dX0_sets_84
    have KB8 : ∀ s o8, fX0_sets_L30 a0 s = some o8 → (∀ s', o8 = Sum.inl s' → (fun (s : (Int32 × Int32 × Hp)) => match s with | (s1_8, s2_8, m8) => G X cx 4 (Qm X cx (some (.inl rv)) m_ nx 0 0) (0) (0) m8 (nx) [some (.inr a0), some (.inl s1_8), some (.inl s2_8), none] [] 30) s') → (∀ q, o8 = Sum.inr q → q = r8) → (fun (s : (Int32 × Int32 × Hp)) => match s with | (s1_8, s2_8, m8) => G X cx 4 (Qm X cx (some (.inl rv)) m_ nx 0 0) (0) (0) m8 (nx) [some (.inr a0), some (.inl s1_8), some (.inl s2_8), none] [] 30) s := by
      intro s o8 h hP8 hE8
      obtain ⟨s1_8, s2_8, m8⟩ := s
      try dsimp only at hP8 hE8 ⊢
      refine G_iload_n F dX0_sets_30 rfl ?_
      refine G_aload_n F dX0_sets_31 rfl ?_
      obtain ⟨v9, e_v9, h⟩ := bnd h
      refine G_getI F okX0 (f := 3) (by decide) q335 rfl dX0_sets_32 e_v9 ?_
      refine G_icmp_ge F (tgt := 83) dX0_sets_35 (by decide) (fun c10 => ?_) (fun c10 => ?_)
      · have h := itt c10 h
        cases h
        exact G_sub F (L2 := [none, some (.inl s1_8), none, none]) ⟨rfl, trivial⟩ (KE8 _ _ (hE8 _ rfl))
      · have h := itf c10 h
        refine G_iconst F (v := (0 : Int32)) dX0_sets_38 (by decide) ?_
        refine G_istore_n F (L2 := [some (.inr a0), some (.inl s1_8), some (.inl s2_8), some (.inl (0 : Int32))]) dX0_sets_39 (by decide) rfl ?_
        obtain ⟨r11, hr11, h⟩ := bnd h
        have KE11 : ∀ (m16 : Hp), m16 = r11 → G X cx 4 (Qm X cx (some (.inl rv)) m_ nx 0 0) (0) (0) m16 (nx) [some (.inr a0), some (.inl s1_8), some (.inl s2_8), none] [] 61 := by
          intro m16 hq
          subst hq
          try dsimp only at h
          refine G_iload_n F dX0_sets_61 rfl ?_
          refine G_aload_n F dX0_sets_62 rfl ?_
          refine G_iload_n F dX0_sets_63 rfl ?_
          obtain ⟨⟨v17, m18⟩, e_v17, h⟩ := bnd h
          obtain ⟨hc_v17, e_v17⟩ := hp_on_of e_v17
          refine G_callVv F (As := [.inl s2_8]) (st := [.inl s1_8]) (con_finds X 60 e_v17) hc_v17 rfl rfl (lw_V q1129 q1131 qs35 q102 q1132) hdfX0_findsB ⟨by omega, by decide⟩ rfl (Nat.le_of_ble_eq_true rfl) ⟨by omega, by omega⟩ dX0_sets_64 ?_
          refine G_if_eq F (tgt := 74) dX0_sets_67 (by decide) (fun c19 => ?_) (fun c19 => ?_)
          · have h := itt c19 h
            refine G_iconst F (v := (0 : Int32)) dX0_sets_74 (by decide) ?_
            refine G_isub F dX0_sets_75 ?_
            refine G_istore_n F (L2 := [some (.inr a0), some (.inl (s1_8 - (0 : Int32))), some (.inl s2_8), none]) dX0_sets_76 (by decide) rfl ?_
            refine G_iinc F (v := (s2_8 + (1 : Int32))) (L2 := [some (.inr a0), some (.inl (s1_8 - (0 : Int32))), some (.inl (s2_8 + (1 : Int32))), none]) dX0_sets_77 (by decide) rfl rfl rfl ?_
            refine G_goto F (tgt := 30) dX0_sets_80 (by decide) ?_
            cases h
            exact G_sub F (L2 := [some (.inr a0), some (.inl (s1_8 - (0 : Int32))), some (.inl (s2_8 + (1 : Int32))), none]) ⟨rfl, ⟨rfl, ⟨rfl, trivial⟩⟩⟩ (hP8 _ rfl)
          · have h := itf c19 h
            refine G_iconst F (v := (1 : Int32)) dX0_sets_70 (by decide) ?_
            refine G_goto F (tgt := 75) dX0_sets_71 (by decide) ?_
            refine G_isub F dX0_sets_75 ?_
            refine G_istore_n F (L2 := [some (.inr a0), some (.inl (s1_8 - (1 : Int32))), some (.inl s2_8), none]) dX0_sets_76 (by decide) rfl ?_
            refine G_iinc F (v := (s2_8 + (1 : Int32))) (L2 := [some (.inr a0), some (.inl (s1_8 - (1 : Int32))), some (.inl (s2_8 + (1 : Int32))), none]) dX0_sets_77 (by decide) rfl rfl rfl ?_
            refine G_goto F (tgt := 30) dX0_sets_80 (by decide) ?_
            cases h
            exact G_sub F (L2 := [some (.inr a0), some (.inl (s1_8 - (1 : Int32))), some (.inl (s2_8 + (1 : Int32))), none]) ⟨rfl, ⟨rfl, ⟨rfl, trivial⟩⟩⟩ (hP8 _ rfl)
        have KB11 : ∀ s o11, fX0_sets_L40 a0 s1_8 s2_8 s = some o11 → (∀ s', o11 = Sum.inl s' → (fun (s : (Int32 × Hp)) => match s with | (s3_11, m11) => G X cx 4 (Qm X cx (some (.inl rv)) m_ nx 0 0) (0) (0) m11 (nx) [some (.inr a0), some (.inl s1_8), some (.inl s2_8), some (.inl s3_11)] [] 40) s') → (∀ q, o11 = Sum.inr q → q = r11) → (fun (s : (Int32 × Hp)) => match s with | (s3_11, m11) => G X cx 4 (Qm X cx (some (.inl rv)) m_ nx 0 0) (0) (0) m11 (nx) [some (.inr a0), some (.inl s1_8), some (.inl s2_8), some (.inl s3_11)] [] 40) s := by
          intro s o11 h hP11 hE11
          obtain ⟨s3_11, m11⟩ := s
          try dsimp only at hP11 hE11 ⊢
          refine G_iload_n F dX0_sets_40 rfl ?_
          refine G_aload_n F dX0_sets_41 rfl ?_
          obtain ⟨v12, e_v12, h⟩ := bnd h
          refine G_getI F okX0 (f := 3) (by decide) q335 rfl dX0_sets_42 e_v12 ?_
          refine G_icmp_ge F (tgt := 61) dX0_sets_45 (by decide) (fun c13 => ?_) (fun c13 => ?_)
          · have h := itt c13 h
            cases h
            exact G_sub F (L2 := [some (.inr a0), some (.inl s1_8), some (.inl s2_8), none]) ⟨rfl, ⟨rfl, ⟨rfl, trivial⟩⟩⟩ (KE11 _ (hE11 _ rfl))
          · have h := itf c13 h
            refine G_aload_n F dX0_sets_48 rfl ?_
            obtain ⟨v14, e_v14, h⟩ := bnd h
            refine G_getR F okX0 (f := 19) (by decide) q357 rfl dX0_sets_49 e_v14 ?_
            refine G_iload_n F dX0_sets_52 rfl ?_
            refine G_iconst F (v := (0 : Int32)) dX0_sets_53 (by decide) ?_
            obtain ⟨m15, e_m15, h⟩ := bnd h
            refine G_zast F dX0_sets_54 e_m15 ?_
            refine G_iinc F (v := (s3_11 + (1 : Int32))) (L2 := [some (.inr a0), some (.inl s1_8), some (.inl s2_8), some (.inl (s3_11 + (1 : Int32)))]) dX0_sets_55 (by decide) rfl rfl rfl ?_
            refine G_goto F (tgt := 40) dX0_sets_58 (by decide) ?_
            cases h
            exact G_sub F (L2 := [some (.inr a0), some (.inl s1_8), some (.inl s2_8), some (.inl (s3_11 + (1 : Int32)))]) ⟨rfl, ⟨rfl, ⟨rfl, ⟨rfl, trivial⟩⟩⟩⟩ (hP11 _ rfl)
        have hI := iter_ok (fun (s : (Int32 × Hp)) => match s with | (s3_11, m11) => G X cx 4 (Qm X cx (some (.inl rv)) m_ nx 0 0) (0) (0) m11 (nx) [some (.inr a0), some (.inl s1_8), some (.inl s2_8), some (.inl s3_11)] [] 40) (fun q => q = r11) KB11 _ _ _ hr11 rfl
        exact G_sub F (L2 := [some (.inr a0), some (.inl s1_8), some (.inl s2_8), some (.inl (0 : Int32))]) ⟨rfl, ⟨rfl, ⟨rfl, ⟨rfl, trivial⟩⟩⟩⟩ hI
    have hI := iter_ok (fun (s : (Int32 × Int32 × Hp)) => match s with | (s1_8, s2_8, m8) => G X cx 4 (Qm X cx (some (.inl rv)) m_ nx 0 0) (0) (0) m8 (nx) [some (.inr a0), some (.inl s1_8), some (.inl s2_8), none] [] 30) (fun q => q = r8) KB8 _ _ _ hr8 rfl
    exact G_sub F (L2 := [some (.inr a0), some (.inl v1), some (.inl (0 : Int32)), none]) ⟨rfl, ⟨rfl, ⟨rfl, trivial⟩⟩⟩ hI
  have KB2 : ∀ s o2, fX0_sets_L7 a0 v1 s = some o2 → (∀ s', o2 = Sum.inl s' → (fun (s : (Int32 × Hp)) => match s with | (s2_2, m2) => G X cx 4 (Qm X cx (some (.inl rv)) m_ nx 0 0) (0) (0) m2 (nx) [some (.inr a0), some (.inl v1), some (.inl s2_2), none] [] 7) s') → (∀ q, o2 = Sum.inr q → q = r2) → (fun (s : (Int32 × Hp)) => match s with | (s2_2, m2) => G X cx 4 (Qm X cx (some (.inl rv)) m_ nx 0 0) (0) (0) m2 (nx) [some (.inr a0), some (.inl v1), some (.inl s2_2), none] [] 7) s := by
    intro s o2 h hP2 hE2
    obtain ⟨s2_2, m2⟩ := s
    try dsimp only at hP2 hE2 ⊢
    refine G_iload_n F dX0_sets_7 rfl ?_
    refine G_aload_n F dX0_sets_8 rfl ?_
    obtain ⟨v3, e_v3, h⟩ := bnd h
    refine G_getI F okX0 (f := 3) (by decide) q335 rfl dX0_sets_9 e_v3 ?_
    refine G_icmp_ge F (tgt := 28) dX0_sets_12 (by decide) (fun c4 => ?_) (fun c4 => ?_)
    · have h := itt c4 h
      cases h
      exact G_sub F (L2 := [some (.inr a0), some (.inl v1), none, none]) ⟨rfl, ⟨rfl, trivial⟩⟩ (KE2 _ (hE2 _ rfl))
    · have h := itf c4 h
      refine G_aload_n F dX0_sets_15 rfl ?_
      obtain ⟨v5, e_v5, h⟩ := bnd h
      refine G_getR F okX0 (f := 18) (by decide) q356 rfl dX0_sets_16 e_v5 ?_
      refine G_iload_n F dX0_sets_19 rfl ?_
      refine G_iconst F (v := (-1 : Int32)) dX0_sets_20 (by decide) ?_
      obtain ⟨m6, e_m6, h⟩ := bnd h
      refine G_iast F dX0_sets_21 e_m6 ?_
      refine G_iinc F (v := (s2_2 + (1 : Int32))) (L2 := [some (.inr a0), some (.inl v1), some (.inl (s2_2 + (1 : Int32))), none]) dX0_sets_22 (by decide) rfl rfl rfl ?_
      refine G_goto F (tgt := 7) dX0_sets_25 (by decide) ?_
      cases h
      exact G_sub F (L2 := [some (.inr a0), some (.inl v1), some (.inl (s2_2 + (1 : Int32))), none]) ⟨rfl, ⟨rfl, ⟨rfl, trivial⟩⟩⟩ (hP2 _ rfl)
  have hI := iter_ok (fun (s : (Int32 × Hp)) => match s with | (s2_2, m2) => G X cx 4 (Qm X cx (some (.inl rv)) m_ nx 0 0) (0) (0) m2 (nx) [some (.inr a0), some (.inl v1), some (.inl s2_2), none] [] 7) (fun q => q = r2) KB2 _ _ _ hr2 rfl
  exact G_sub F (L2 := [some (.inr a0), some (.inl v1), some (.inl (0 : Int32)), none]) ⟨rfl, ⟨rfl, ⟨rfl, trivial⟩⟩⟩ hI

theorem metX0_doMeet (X : Gx) {m : Hp} {nx : Nat} {a0 : Option Nat} {a1 : Option Nat} {a2 : Option Nat} {rv : Int32} (h : fX0_doMeet m a0 a1 a2 = some rv) : Con X (1) yX0_doMeet cX0_doMeet 5 ((Option.some FieldType.boolean)) [.inr a0, .inr a1, .inr a2] m nx (some (.inl rv)) m 0 0 := by
  refine Con.of (own := RX0) (nm := "doMeet") (L := [some (.inr a0), some (.inr a1), some (.inr a2), none, none]) (by decide +kernel) rfl rfl (Nat.le_of_ble_eq_true rfl) (ent_of 2 rfl) ?_
  intro cx F
  refine G_iconst F (v := (0 : Int32)) dX0_doMeet_0 (by decide) ?_
  refine G_istore_n F (L2 := [some (.inr a0), some (.inr a1), some (.inr a2), some (.inl (0 : Int32)), none]) dX0_doMeet_1 (by decide) rfl ?_
  obtain ⟨r1, hr1, h⟩ := bnd h
  have KE1 : ∀ (_ : Unit), Sum.inl () = r1 → G X cx 5 (Qm X cx (some (.inl rv)) m nx 0 0) (0) (0) m (nx) [none, none, none, none, none] [] 115 := by
    intro _ hq
    subst hq
    try dsimp only at h
    refine G_iconst F (v := (0 : Int32)) dX0_doMeet_115 (by decide) ?_
    cases h
    exact G_zret F rfl (Or.inl rfl) (Nat.le_refl _) (Nat.le_refl _) rfl dX0_doMeet_116
  have KR1 : ∀ q, Sum.inr q = r1 → some q = some rv := by
    intro q hq
    subst hq
    exact h
  have KB1 : ∀ s o1, fX0_doMeet_L2 m a1 a2 s = some o1 → (∀ s', o1 = Sum.inl s' → (fun (s : Int32) => match s with | s3_1 => G X cx 5 (Qm X cx (some (.inl rv)) m nx 0 0) (0) (0) m (nx) [none, some (.inr a1), some (.inr a2), some (.inl s3_1), none] [] 2) s') → (∀ q, o1 = Sum.inr q → q = r1) → (fun (s : Int32) => match s with | s3_1 => G X cx 5 (Qm X cx (some (.inl rv)) m nx 0 0) (0) (0) m (nx) [none, some (.inr a1), some (.inr a2), some (.inl s3_1), none] [] 2) s := by
    intro s o1 h hP1 hE1
    obtain ⟨s3_1, hs_⟩ : ∃ x, x = s := ⟨_, rfl⟩
    subst hs_
    try dsimp only at hP1 hE1 ⊢
    refine G_iload_n F dX0_doMeet_2 rfl ?_
    refine G_iconst F (v := (1 : Int32)) dX0_doMeet_3 (by decide) ?_
    refine G_iadd F dX0_doMeet_4 ?_
    refine G_aload_n F dX0_doMeet_5 rfl ?_
    obtain ⟨v2, e_v2, h⟩ := bnd h
    refine G_getIN F okX6 (f := 2) (by decide) q305 rfl dX0_doMeet_6 e_v2 ?_
    refine G_icmp_ge F (tgt := 115) dX0_doMeet_9 (by decide) (fun c3 => ?_) (fun c3 => ?_)
    · have h := itt c3 h
      cases h
      exact G_sub F (L2 := [none, none, none, none, none]) trivial (KE1 () (hE1 _ rfl))
    · have h := itf c3 h
      refine G_iconst F (v := (0 : Int32)) dX0_doMeet_12 (by decide) ?_
      refine G_istore F (L2 := [none, some (.inr a1), some (.inr a2), some (.inl s3_1), some (.inl (0 : Int32))]) dX0_doMeet_13 (by decide) rfl ?_
      obtain ⟨r4, hr4, h⟩ := bnd h
      have KE4 : ∀ (_ : Unit), Sum.inl () = r4 → G X cx 5 (Qm X cx (some (.inl rv)) m nx 0 0) (0) (0) m (nx) [none, some (.inr a1), some (.inr a2), some (.inl s3_1), none] [] 109 := by
        intro _ hq
        subst hq
        try dsimp only at h
        refine G_iinc F (v := (s3_1 + (1 : Int32))) (L2 := [none, some (.inr a1), some (.inr a2), some (.inl (s3_1 + (1 : Int32))), none]) dX0_doMeet_109 (by decide) rfl rfl rfl ?_
        refine G_goto F (tgt := 2) dX0_doMeet_112 (by decide) ?_
        cases h
        exact G_sub F (L2 := [none, some (.inr a1), some (.inr a2), some (.inl (s3_1 + (1 : Int32))), none]) ⟨rfl, ⟨rfl, ⟨rfl, trivial⟩⟩⟩ (hP1 _ rfl)
      have KR4 : ∀ q, Sum.inr q = r4 → some q = some o1 := by
        intro q hq
        subst hq
        exact h
      have KB4 : ∀ s o4, fX0_doMeet_L15 m a1 a2 s3_1 s = some o4 → (∀ s', o4 = Sum.inl s' → (fun (s : Int32) => match s with | s4_4 => G X cx 5 (Qm X cx (some (.inl rv)) m nx 0 0) (0) (0) m (nx) [none, some (.inr a1), some (.inr a2), some (.inl s3_1), some (.inl s4_4)] [] 15) s') → (∀ q, o4 = Sum.inr q → q = r4) → (fun (s : Int32) => match s with | s4_4 => G X cx 5 (Qm X cx (some (.inl rv)) m nx 0 0) (0) (0) m (nx) [none, some (.inr a1), some (.inr a2), some (.inl s3_1), some (.inl s4_4)] [] 15) s := by
        intro s o4 h hP4 hE4
        obtain ⟨s4_4, hs_⟩ : ∃ x, x = s := ⟨_, rfl⟩
        subst hs_
        try dsimp only at hP4 hE4 ⊢
        refine G_iload F dX0_doMeet_15 rfl ?_
        refine G_iconst F (v := (1 : Int32)) dX0_doMeet_17 (by decide) ?_
        refine G_iadd F dX0_doMeet_18 ?_
        refine G_aload_n F dX0_doMeet_19 rfl ?_
        obtain ⟨v5, e_v5, h⟩ := bnd h
        refine G_getIN F okX6 (f := 2) (by decide) q305 rfl dX0_doMeet_20 e_v5 ?_
        refine G_icmp_ge F (tgt := 109) dX0_doMeet_23 (by decide) (fun c6 => ?_) (fun c6 => ?_)
        · have h := itt c6 h
          cases h
          exact G_sub F (L2 := [none, some (.inr a1), some (.inr a2), some (.inl s3_1), none]) ⟨rfl, ⟨rfl, ⟨rfl, trivial⟩⟩⟩ (KE4 () (hE4 _ rfl))
        · have h := itf c6 h
          refine G_aload_n F dX0_doMeet_26 rfl ?_
          obtain ⟨v7, e_v7, h⟩ := bnd h
          refine G_getRN F okX6 (f := 0) (by decide) q298 rfl dX0_doMeet_27 e_v7 ?_
          refine G_iload_n F dX0_doMeet_30 rfl ?_
          obtain ⟨v8, e_v8, h⟩ := bnd h
          refine G_iald F dX0_doMeet_31 e_v8 ?_
          refine G_aload_n F dX0_doMeet_32 rfl ?_
          obtain ⟨v9, e_v9, h⟩ := bnd h
          refine G_getRN F okX6 (f := 0) (by decide) q298 rfl dX0_doMeet_33 e_v9 ?_
          refine G_iload F dX0_doMeet_36 rfl ?_
          refine G_iconst F (v := (1 : Int32)) dX0_doMeet_38 (by decide) ?_
          refine G_iadd F dX0_doMeet_39 ?_
          obtain ⟨v10, e_v10, h⟩ := bnd h
          refine G_iald F dX0_doMeet_40 e_v10 ?_
          refine G_icmp_ne F (tgt := 103) dX0_doMeet_41 (by decide) (fun c11 => ?_) (fun c11 => ?_)
          · have h := itf c11 h
            refine G_iinc F (v := (s4_4 + (1 : Int32))) (L2 := [none, some (.inr a1), some (.inr a2), some (.inl s3_1), some (.inl (s4_4 + (1 : Int32)))]) dX0_doMeet_103 (by decide) rfl rfl rfl ?_
            refine G_goto F (tgt := 15) dX0_doMeet_106 (by decide) ?_
            cases h
            exact G_sub F (L2 := [none, some (.inr a1), some (.inr a2), some (.inl s3_1), some (.inl (s4_4 + (1 : Int32)))]) ⟨rfl, ⟨rfl, ⟨rfl, ⟨rfl, trivial⟩⟩⟩⟩ (hP4 _ rfl)
          · have h := itt c11 h
            refine G_aload_n F dX0_doMeet_44 rfl ?_
            obtain ⟨v12, e_v12, h⟩ := bnd h
            refine G_getRN F okX6 (f := 0) (by decide) q298 rfl dX0_doMeet_45 e_v12 ?_
            refine G_iload_n F dX0_doMeet_48 rfl ?_
            refine G_iconst F (v := (1 : Int32)) dX0_doMeet_49 (by decide) ?_
            refine G_iadd F dX0_doMeet_50 ?_
            obtain ⟨v13, e_v13, h⟩ := bnd h
            refine G_iald F dX0_doMeet_51 e_v13 ?_
            refine G_aload_n F dX0_doMeet_52 rfl ?_
            obtain ⟨v14, e_v14, h⟩ := bnd h
            refine G_getRN F okX6 (f := 0) (by decide) q298 rfl dX0_doMeet_53 e_v14 ?_
            refine G_iload F dX0_doMeet_56 rfl ?_
            obtain ⟨v15, e_v15, h⟩ := bnd h
            refine G_iald F dX0_doMeet_58 e_v15 ?_
            refine G_icmp_eq F (tgt := 65) dX0_doMeet_59 (by decide) (fun c16 => ?_) (fun c16 => ?_)
            · have h := itt c16 h
              refine G_aload_n F dX0_doMeet_65 rfl ?_
              obtain ⟨v17, e_v17, h⟩ := bnd h
              refine G_getRN F okX6 (f := 1) (by decide) q301 rfl dX0_doMeet_66 e_v17 ?_
              refine G_iload_n F dX0_doMeet_69 rfl ?_
              obtain ⟨v18, e_v18, h⟩ := bnd h
              refine G_iald F dX0_doMeet_70 e_v18 ?_
              refine G_aload_n F dX0_doMeet_71 rfl ?_
              obtain ⟨v19, e_v19, h⟩ := bnd h
              refine G_getRN F okX6 (f := 1) (by decide) q301 rfl dX0_doMeet_72 e_v19 ?_
              refine G_iload F dX0_doMeet_75 rfl ?_
              refine G_iconst F (v := (1 : Int32)) dX0_doMeet_77 (by decide) ?_
              refine G_iadd F dX0_doMeet_78 ?_
              obtain ⟨v20, e_v20, h⟩ := bnd h
              refine G_iald F dX0_doMeet_79 e_v20 ?_
              refine G_icmp_ge F (tgt := 103) dX0_doMeet_80 (by decide) (fun c21 => ?_) (fun c21 => ?_)
              · have h := itt c21 h
                refine G_iinc F (v := (s4_4 + (1 : Int32))) (L2 := [none, some (.inr a1), some (.inr a2), some (.inl s3_1), some (.inl (s4_4 + (1 : Int32)))]) dX0_doMeet_103 (by decide) rfl rfl rfl ?_
                refine G_goto F (tgt := 15) dX0_doMeet_106 (by decide) ?_
                cases h
                exact G_sub F (L2 := [none, some (.inr a1), some (.inr a2), some (.inl s3_1), some (.inl (s4_4 + (1 : Int32)))]) ⟨rfl, ⟨rfl, ⟨rfl, ⟨rfl, trivial⟩⟩⟩⟩ (hP4 _ rfl)
              · have h := itf c21 h
                refine G_aload_n F dX0_doMeet_83 rfl ?_
                obtain ⟨v22, e_v22, h⟩ := bnd h
                refine G_getRN F okX6 (f := 1) (by decide) q301 rfl dX0_doMeet_84 e_v22 ?_
                refine G_iload F dX0_doMeet_87 rfl ?_
                obtain ⟨v23, e_v23, h⟩ := bnd h
                refine G_iald F dX0_doMeet_89 e_v23 ?_
                refine G_aload_n F dX0_doMeet_90 rfl ?_
                obtain ⟨v24, e_v24, h⟩ := bnd h
                refine G_getRN F okX6 (f := 1) (by decide) q301 rfl dX0_doMeet_91 e_v24 ?_
                refine G_iload_n F dX0_doMeet_94 rfl ?_
                refine G_iconst F (v := (1 : Int32)) dX0_doMeet_95 (by decide) ?_
                refine G_iadd F dX0_doMeet_96 ?_
                obtain ⟨v25, e_v25, h⟩ := bnd h
                refine G_iald F dX0_doMeet_97 e_v25 ?_
                refine G_icmp_ge F (tgt := 103) dX0_doMeet_98 (by decide) (fun c26 => ?_) (fun c26 => ?_)
                · have h := itt c26 h
                  refine G_iinc F (v := (s4_4 + (1 : Int32))) (L2 := [none, some (.inr a1), some (.inr a2), some (.inl s3_1), some (.inl (s4_4 + (1 : Int32)))]) dX0_doMeet_103 (by decide) rfl rfl rfl ?_
                  refine G_goto F (tgt := 15) dX0_doMeet_106 (by decide) ?_
                  cases h
                  exact G_sub F (L2 := [none, some (.inr a1), some (.inr a2), some (.inl s3_1), some (.inl (s4_4 + (1 : Int32)))]) ⟨rfl, ⟨rfl, ⟨rfl, ⟨rfl, trivial⟩⟩⟩⟩ (hP4 _ rfl)
                · have h := itf c26 h
                  refine G_iconst F (v := (1 : Int32)) dX0_doMeet_101 (by decide) ?_
                  cases h
                  have h := KR4 _ (hE4 _ rfl)
                  cases h
                  have h := KR1 _ (hE1 _ rfl)
                  cases h
                  exact G_zret F rfl (Or.inr rfl) (Nat.le_refl _) (Nat.le_refl _) rfl dX0_doMeet_102
            · have h := itf c16 h
              refine G_goto F (tgt := 103) dX0_doMeet_62 (by decide) ?_
              refine G_iinc F (v := (s4_4 + (1 : Int32))) (L2 := [none, some (.inr a1), some (.inr a2), some (.inl s3_1), some (.inl (s4_4 + (1 : Int32)))]) dX0_doMeet_103 (by decide) rfl rfl rfl ?_
              refine G_goto F (tgt := 15) dX0_doMeet_106 (by decide) ?_
              cases h
              exact G_sub F (L2 := [none, some (.inr a1), some (.inr a2), some (.inl s3_1), some (.inl (s4_4 + (1 : Int32)))]) ⟨rfl, ⟨rfl, ⟨rfl, ⟨rfl, trivial⟩⟩⟩⟩ (hP4 _ rfl)
      have hI := iter_ok (fun (s : Int32) => match s with | s4_4 => G X cx 5 (Qm X cx (some (.inl rv)) m nx 0 0) (0) (0) m (nx) [none, some (.inr a1), some (.inr a2), some (.inl s3_1), some (.inl s4_4)] [] 15) (fun q => q = r4) KB4 _ _ _ hr4 rfl
      exact G_sub F (L2 := [none, some (.inr a1), some (.inr a2), some (.inl s3_1), some (.inl (0 : Int32))]) ⟨rfl, ⟨rfl, ⟨rfl, ⟨rfl, trivial⟩⟩⟩⟩ hI
  have hI := iter_ok (fun (s : Int32) => match s with | s3_1 => G X cx 5 (Qm X cx (some (.inl rv)) m nx 0 0) (0) (0) m (nx) [none, some (.inr a1), some (.inr a2), some (.inl s3_1), none] [] 2) (fun q => q = r1) KB1 _ _ _ hr1 rfl
  exact G_sub F (L2 := [none, some (.inr a1), some (.inr a2), some (.inl (0 : Int32)), none]) ⟨rfl, ⟨rfl, ⟨rfl, trivial⟩⟩⟩ hI

theorem metX0_meets (X : Gx) {m : Hp} {nx : Nat} {a0 : Option Nat} {rv : Int32} (h : fX0_meets m a0 = some rv) : Con X (2) yX0_meets cX0_meets 4 ((Option.some FieldType.int)) [.inr a0] m nx (some (.inl rv)) m 0 0 := by
  refine Con.of (own := RX0) (nm := "meets") (L := [some (.inr a0), none, none, none]) (by decide +kernel) rfl rfl (Nat.le_of_ble_eq_true rfl) (ent_of 3 rfl) ?_
  intro cx F
  refine G_iconst F (v := (0 : Int32)) dX0_meets_0 (by decide) ?_
  refine G_istore_n F (L2 := [some (.inr a0), some (.inl (0 : Int32)), none, none]) dX0_meets_1 (by decide) rfl ?_
  refine G_iconst F (v := (0 : Int32)) dX0_meets_2 (by decide) ?_
  refine G_istore_n F (L2 := [some (.inr a0), some (.inl (0 : Int32)), some (.inl (0 : Int32)), none]) dX0_meets_3 (by decide) rfl ?_
  obtain ⟨r1, hr1, h⟩ := bnd h
  have KE1 : ∀ (v22 : Int32), v22 = r1 → G X cx 4 (Qm X cx (some (.inl rv)) m nx 0 0) (0) (0) m (nx) [none, some (.inl v22), none, none] [] 87 := by
    intro v22 hq
    subst hq
    try dsimp only at h
    refine G_iload_n F dX0_meets_87 rfl ?_
    cases h
    exact G_iret F rfl (Nat.le_refl _) (Nat.le_refl _) rfl dX0_meets_88
  have KB1 : ∀ s o1, fX0_meets_L4 m a0 s = some o1 → (∀ s', o1 = Sum.inl s' → (fun (s : (Int32 × Int32)) => match s with | (s1_1, s2_1) => G X cx 4 (Qm X cx (some (.inl rv)) m nx 0 0) (0) (0) m (nx) [some (.inr a0), some (.inl s1_1), some (.inl s2_1), none] [] 4) s') → (∀ q, o1 = Sum.inr q → q = r1) → (fun (s : (Int32 × Int32)) => match s with | (s1_1, s2_1) => G X cx 4 (Qm X cx (some (.inl rv)) m nx 0 0) (0) (0) m (nx) [some (.inr a0), some (.inl s1_1), some (.inl s2_1), none] [] 4) s := by
    intro s o1 h hP1 hE1
    obtain ⟨s1_1, s2_1⟩ := s
    try dsimp only at hP1 hE1 ⊢
    refine G_iload_n F dX0_meets_4 rfl ?_
    refine G_aload_n F dX0_meets_5 rfl ?_
    obtain ⟨v2, e_v2, h⟩ := bnd h
    refine G_getI F okX0 (f := 3) (by decide) q335 rfl dX0_meets_6 e_v2 ?_
    refine G_icmp_ge F (tgt := 87) dX0_meets_9 (by decide) (fun c3 => ?_) (fun c3 => ?_)
    · have h := itt c3 h
      cases h
      exact G_sub F (L2 := [none, some (.inl s1_1), none, none]) ⟨rfl, trivial⟩ (KE1 _ (hE1 _ rfl))
    · have h := itf c3 h
      refine G_iload_n F dX0_meets_12 rfl ?_
      refine G_iconst F (v := (1 : Int32)) dX0_meets_13 (by decide) ?_
      refine G_iadd F dX0_meets_14 ?_
      refine G_istore_n F (L2 := [some (.inr a0), some (.inl s1_1), some (.inl s2_1), some (.inl (s2_1 + (1 : Int32)))]) dX0_meets_15 (by decide) rfl ?_
      obtain ⟨r4, hr4, h⟩ := bnd h
      have KE4 : ∀ (v21 : Int32), v21 = r4 → G X cx 4 (Qm X cx (some (.inl rv)) m nx 0 0) (0) (0) m (nx) [some (.inr a0), some (.inl v21), some (.inl s2_1), none] [] 81 := by
        intro v21 hq
        subst hq
        try dsimp only at h
        refine G_iinc F (v := (s2_1 + (1 : Int32))) (L2 := [some (.inr a0), some (.inl v21), some (.inl (s2_1 + (1 : Int32))), none]) dX0_meets_81 (by decide) rfl rfl rfl ?_
        refine G_goto F (tgt := 4) dX0_meets_84 (by decide) ?_
        cases h
        exact G_sub F (L2 := [some (.inr a0), some (.inl v21), some (.inl (s2_1 + (1 : Int32))), none]) ⟨rfl, ⟨rfl, ⟨rfl, trivial⟩⟩⟩ (hP1 _ rfl)
      have KB4 : ∀ s o4, fX0_meets_L16 m a0 s2_1 s = some o4 → (∀ s', o4 = Sum.inl s' → (fun (s : (Int32 × Int32)) => match s with | (s1_4, s3_4) => G X cx 4 (Qm X cx (some (.inl rv)) m nx 0 0) (0) (0) m (nx) [some (.inr a0), some (.inl s1_4), some (.inl s2_1), some (.inl s3_4)] [] 16) s') → (∀ q, o4 = Sum.inr q → q = r4) → (fun (s : (Int32 × Int32)) => match s with | (s1_4, s3_4) => G X cx 4 (Qm X cx (some (.inl rv)) m nx 0 0) (0) (0) m (nx) [some (.inr a0), some (.inl s1_4), some (.inl s2_1), some (.inl s3_4)] [] 16) s := by
        intro s o4 h hP4 hE4
        obtain ⟨s1_4, s3_4⟩ := s
        try dsimp only at hP4 hE4 ⊢
        refine G_iload_n F dX0_meets_16 rfl ?_
        refine G_aload_n F dX0_meets_17 rfl ?_
        obtain ⟨v5, e_v5, h⟩ := bnd h
        refine G_getI F okX0 (f := 3) (by decide) q335 rfl dX0_meets_18 e_v5 ?_
        refine G_icmp_ge F (tgt := 81) dX0_meets_21 (by decide) (fun c6 => ?_) (fun c6 => ?_)
        · have h := itt c6 h
          cases h
          exact G_sub F (L2 := [some (.inr a0), some (.inl s1_4), some (.inl s2_1), none]) ⟨rfl, ⟨rfl, ⟨rfl, trivial⟩⟩⟩ (KE4 _ (hE4 _ rfl))
        · have h := itf c6 h
          refine G_iload_n F dX0_meets_24 rfl ?_
          refine G_aload_n F dX0_meets_25 rfl ?_
          obtain ⟨v7, e_v7, h⟩ := bnd h
          refine G_getR F okX0 (f := 0) (by decide) q328 rfl dX0_meets_26 e_v7 ?_
          refine G_iload_n F dX0_meets_29 rfl ?_
          obtain ⟨v8, e_v8, h⟩ := bnd h
          refine G_aald F (t := 5) (by decide) dX0_meets_30 e_v8 ?_
          obtain ⟨v9, e_v9, h⟩ := bnd h
          refine G_getIN F okX6 (f := 4) (by decide) q313 rfl dX0_meets_31 e_v9 ?_
          refine G_if_eq F (tgt := 72) dX0_meets_34 (by decide) (fun c10 => ?_) (fun c10 => ?_)
          · have h := itt c10 h
            refine G_iconst F (v := (0 : Int32)) dX0_meets_72 (by decide) ?_
            refine G_iadd F dX0_meets_73 ?_
            refine G_istore_n F (L2 := [some (.inr a0), some (.inl (s1_4 + (0 : Int32))), some (.inl s2_1), some (.inl s3_4)]) dX0_meets_74 (by decide) rfl ?_
            refine G_iinc F (v := (s3_4 + (1 : Int32))) (L2 := [some (.inr a0), some (.inl (s1_4 + (0 : Int32))), some (.inl s2_1), some (.inl (s3_4 + (1 : Int32)))]) dX0_meets_75 (by decide) rfl rfl rfl ?_
            refine G_goto F (tgt := 16) dX0_meets_78 (by decide) ?_
            cases h
            exact G_sub F (L2 := [some (.inr a0), some (.inl (s1_4 + (0 : Int32))), some (.inl s2_1), some (.inl (s3_4 + (1 : Int32)))]) ⟨rfl, ⟨rfl, ⟨rfl, ⟨rfl, trivial⟩⟩⟩⟩ (hP4 _ rfl)
          · have h := itf c10 h
            refine G_aload_n F dX0_meets_37 rfl ?_
            obtain ⟨v11, e_v11, h⟩ := bnd h
            refine G_getR F okX0 (f := 0) (by decide) q328 rfl dX0_meets_38 e_v11 ?_
            refine G_iload_n F dX0_meets_41 rfl ?_
            obtain ⟨v12, e_v12, h⟩ := bnd h
            refine G_aald F (t := 5) (by decide) dX0_meets_42 e_v12 ?_
            obtain ⟨v13, e_v13, h⟩ := bnd h
            refine G_getIN F okX6 (f := 4) (by decide) q313 rfl dX0_meets_43 e_v13 ?_
            refine G_if_eq F (tgt := 72) dX0_meets_46 (by decide) (fun c14 => ?_) (fun c14 => ?_)
            · have h := itt c14 h
              refine G_iconst F (v := (0 : Int32)) dX0_meets_72 (by decide) ?_
              refine G_iadd F dX0_meets_73 ?_
              refine G_istore_n F (L2 := [some (.inr a0), some (.inl (s1_4 + (0 : Int32))), some (.inl s2_1), some (.inl s3_4)]) dX0_meets_74 (by decide) rfl ?_
              refine G_iinc F (v := (s3_4 + (1 : Int32))) (L2 := [some (.inr a0), some (.inl (s1_4 + (0 : Int32))), some (.inl s2_1), some (.inl (s3_4 + (1 : Int32)))]) dX0_meets_75 (by decide) rfl rfl rfl ?_
              refine G_goto F (tgt := 16) dX0_meets_78 (by decide) ?_
              cases h
              exact G_sub F (L2 := [some (.inr a0), some (.inl (s1_4 + (0 : Int32))), some (.inl s2_1), some (.inl (s3_4 + (1 : Int32)))]) ⟨rfl, ⟨rfl, ⟨rfl, ⟨rfl, trivial⟩⟩⟩⟩ (hP4 _ rfl)
            · have h := itf c14 h
              refine G_aload_n F dX0_meets_49 rfl ?_
              refine G_aload_n F dX0_meets_50 rfl ?_
              obtain ⟨v15, e_v15, h⟩ := bnd h
              refine G_getR F okX0 (f := 0) (by decide) q328 rfl dX0_meets_51 e_v15 ?_
              refine G_iload_n F dX0_meets_54 rfl ?_
              obtain ⟨v16, e_v16, h⟩ := bnd h
              refine G_aald F (t := 5) (by decide) dX0_meets_55 e_v16 ?_
              refine G_aload_n F dX0_meets_56 rfl ?_
              obtain ⟨v17, e_v17, h⟩ := bnd h
              refine G_getR F okX0 (f := 0) (by decide) q328 rfl dX0_meets_57 e_v17 ?_
              refine G_iload_n F dX0_meets_60 rfl ?_
              obtain ⟨v18, e_v18, h⟩ := bnd h
              refine G_aald F (t := 5) (by decide) dX0_meets_61 e_v18 ?_
              obtain ⟨v19, e_v19, h⟩ := bnd h
              obtain ⟨hc_v19, e_v19⟩ := hp_on_of e_v19
              refine G_callVv F (As := [.inr v16, .inr v18]) (st := [.inl s1_4]) (metX0_doMeet X e_v19) hc_v19 rfl rfl (lw_V q1141 q1143 qs37 q102 q1144) hdfX0_doMeet ⟨by omega, by decide⟩ rfl (Nat.le_of_ble_eq_true rfl) ⟨by omega, by omega⟩ dX0_meets_62 ?_
              refine G_if_eq F (tgt := 72) dX0_meets_65 (by decide) (fun c20 => ?_) (fun c20 => ?_)
              · have h := itt c20 h
                refine G_iconst F (v := (0 : Int32)) dX0_meets_72 (by decide) ?_
                refine G_iadd F dX0_meets_73 ?_
                refine G_istore_n F (L2 := [some (.inr a0), some (.inl (s1_4 + (0 : Int32))), some (.inl s2_1), some (.inl s3_4)]) dX0_meets_74 (by decide) rfl ?_
                refine G_iinc F (v := (s3_4 + (1 : Int32))) (L2 := [some (.inr a0), some (.inl (s1_4 + (0 : Int32))), some (.inl s2_1), some (.inl (s3_4 + (1 : Int32)))]) dX0_meets_75 (by decide) rfl rfl rfl ?_
                refine G_goto F (tgt := 16) dX0_meets_78 (by decide) ?_
                cases h
                exact G_sub F (L2 := [some (.inr a0), some (.inl (s1_4 + (0 : Int32))), some (.inl s2_1), some (.inl (s3_4 + (1 : Int32)))]) ⟨rfl, ⟨rfl, ⟨rfl, ⟨rfl, trivial⟩⟩⟩⟩ (hP4 _ rfl)
              · have h := itf c20 h
                refine G_iconst F (v := (1 : Int32)) dX0_meets_68 (by decide) ?_
                refine G_goto F (tgt := 73) dX0_meets_69 (by decide) ?_
                refine G_iadd F dX0_meets_73 ?_
                refine G_istore_n F (L2 := [some (.inr a0), some (.inl (s1_4 + (1 : Int32))), some (.inl s2_1), some (.inl s3_4)]) dX0_meets_74 (by decide) rfl ?_
                refine G_iinc F (v := (s3_4 + (1 : Int32))) (L2 := [some (.inr a0), some (.inl (s1_4 + (1 : Int32))), some (.inl s2_1), some (.inl (s3_4 + (1 : Int32)))]) dX0_meets_75 (by decide) rfl rfl rfl ?_
                refine G_goto F (tgt := 16) dX0_meets_78 (by decide) ?_
                cases h
                exact G_sub F (L2 := [some (.inr a0), some (.inl (s1_4 + (1 : Int32))), some (.inl s2_1), some (.inl (s3_4 + (1 : Int32)))]) ⟨rfl, ⟨rfl, ⟨rfl, ⟨rfl, trivial⟩⟩⟩⟩ (hP4 _ rfl)
      have hI := iter_ok (fun (s : (Int32 × Int32)) => match s with | (s1_4, s3_4) => G X cx 4 (Qm X cx (some (.inl rv)) m nx 0 0) (0) (0) m (nx) [some (.inr a0), some (.inl s1_4), some (.inl s2_1), some (.inl s3_4)] [] 16) (fun q => q = r4) KB4 _ _ _ hr4 rfl
      exact G_sub F (L2 := [some (.inr a0), some (.inl s1_1), some (.inl s2_1), some (.inl (s2_1 + (1 : Int32)))]) ⟨rfl, ⟨rfl, ⟨rfl, ⟨rfl, trivial⟩⟩⟩⟩ hI
  have hI := iter_ok (fun (s : (Int32 × Int32)) => match s with | (s1_1, s2_1) => G X cx 4 (Qm X cx (some (.inl rv)) m nx 0 0) (0) (0) m (nx) [some (.inr a0), some (.inl s1_1), some (.inl s2_1), none] [] 4) (fun q => q = r1) KB1 _ _ _ hr1 rfl
  exact G_sub F (L2 := [some (.inr a0), some (.inl (0 : Int32)), some (.inl (0 : Int32)), none]) ⟨rfl, ⟨rfl, ⟨rfl, trivial⟩⟩⟩ hI

theorem metX0_ridesFrom (X : Gx) {m : Hp} {nx : Nat} {a0 : Option Nat} {a1 : Int32} {a2 : Int32} {a3 : Int32} {rv : Int32} (h : fX0_ridesFrom m a0 a1 a2 a3 = some rv) : Con X (3) yX0_ridesFrom cX0_ridesFrom 7 ((Option.some FieldType.int)) [.inr a0, .inl a1, .inl a2, .inl a3] m nx (some (.inl rv)) m 0 0 := by
  refine Con.of (own := RX0) (nm := "ridesFrom") (L := [some (.inr a0), some (.inl a1), some (.inl a2), some (.inl a3), none, none, none]) (by decide +kernel) rfl rfl (Nat.le_of_ble_eq_true rfl) (ent_of 3 rfl) ?_
  intro cx F
  refine G_iconst F (v := (0 : Int32)) dX0_ridesFrom_0 (by decide) ?_
  refine G_istore F (L2 := [some (.inr a0), some (.inl a1), some (.inl a2), some (.inl a3), some (.inl (0 : Int32)), none, none]) dX0_ridesFrom_1 (by decide) rfl ?_
  refine G_iconst F (v := (0 : Int32)) dX0_ridesFrom_3 (by decide) ?_
  refine G_istore F (L2 := [some (.inr a0), some (.inl a1), some (.inl a2), some (.inl a3), some (.inl (0 : Int32)), some (.inl (0 : Int32)), none]) dX0_ridesFrom_4 (by decide) rfl ?_
  obtain ⟨r1, hr1, h⟩ := bnd h
  have KE1 : ∀ (v25 : Int32), v25 = r1 → G X cx 7 (Qm X cx (some (.inl rv)) m nx 0 0) (0) (0) m (nx) [none, none, none, none, some (.inl v25), none, none] [] 114 := by
    intro v25 hq
    subst hq
    try dsimp only at h
    refine G_iload F dX0_ridesFrom_114 rfl ?_
    cases h
    exact G_iret F rfl (Nat.le_refl _) (Nat.le_refl _) rfl dX0_ridesFrom_116
  have KB1 : ∀ s o1, fX0_ridesFrom_L6 m a0 a1 a2 a3 s = some o1 → (∀ s', o1 = Sum.inl s' → (fun (s : (Int32 × Int32)) => match s with | (s4_1, s5_1) => G X cx 7 (Qm X cx (some (.inl rv)) m nx 0 0) (0) (0) m (nx) [some (.inr a0), some (.inl a1), some (.inl a2), some (.inl a3), some (.inl s4_1), some (.inl s5_1), none] [] 6) s') → (∀ q, o1 = Sum.inr q → q = r1) → (fun (s : (Int32 × Int32)) => match s with | (s4_1, s5_1) => G X cx 7 (Qm X cx (some (.inl rv)) m nx 0 0) (0) (0) m (nx) [some (.inr a0), some (.inl a1), some (.inl a2), some (.inl a3), some (.inl s4_1), some (.inl s5_1), none] [] 6) s := by
    intro s o1 h hP1 hE1
    obtain ⟨s4_1, s5_1⟩ := s
    try dsimp only at hP1 hE1 ⊢
    refine G_iload F dX0_ridesFrom_6 rfl ?_
    refine G_aload_n F dX0_ridesFrom_8 rfl ?_
    obtain ⟨v2, e_v2, h⟩ := bnd h
    refine G_getI F okX0 (f := 3) (by decide) q335 rfl dX0_ridesFrom_9 e_v2 ?_
    refine G_icmp_ge F (tgt := 114) dX0_ridesFrom_12 (by decide) (fun c3 => ?_) (fun c3 => ?_)
    · have h := itt c3 h
      cases h
      exact G_sub F (L2 := [none, none, none, none, some (.inl s4_1), none, none]) ⟨rfl, trivial⟩ (KE1 _ (hE1 _ rfl))
    · have h := itf c3 h
      refine G_iload F dX0_ridesFrom_15 rfl ?_
      refine G_iload_n F dX0_ridesFrom_17 rfl ?_
      refine G_icmp_eq F (tgt := 108) dX0_ridesFrom_18 (by decide) (fun c4 => ?_) (fun c4 => ?_)
      · have h := itt c4 h
        refine G_iinc F (v := (s5_1 + (1 : Int32))) (L2 := [some (.inr a0), some (.inl a1), some (.inl a2), some (.inl a3), some (.inl s4_1), some (.inl (s5_1 + (1 : Int32))), none]) dX0_ridesFrom_108 (by decide) rfl rfl rfl ?_
        refine G_goto F (tgt := 6) dX0_ridesFrom_111 (by decide) ?_
        cases h
        exact G_sub F (L2 := [some (.inr a0), some (.inl a1), some (.inl a2), some (.inl a3), some (.inl s4_1), some (.inl (s5_1 + (1 : Int32))), none]) ⟨rfl, ⟨rfl, ⟨rfl, ⟨rfl, ⟨rfl, ⟨rfl, trivial⟩⟩⟩⟩⟩⟩ (hP1 _ rfl)
      · have h := itf c4 h
        refine G_aload_n F dX0_ridesFrom_21 rfl ?_
        obtain ⟨v5, e_v5, h⟩ := bnd h
        refine G_getR F okX0 (f := 0) (by decide) q328 rfl dX0_ridesFrom_22 e_v5 ?_
        refine G_iload F dX0_ridesFrom_25 rfl ?_
        obtain ⟨v6, e_v6, h⟩ := bnd h
        refine G_aald F (t := 5) (by decide) dX0_ridesFrom_27 e_v6 ?_
        refine G_iload_n F dX0_ridesFrom_28 rfl ?_
        obtain ⟨v7, e_v7, h⟩ := bnd h
        obtain ⟨hc_v7, e_v7⟩ := hp_on_of e_v7
        refine G_callVv F (As := [.inl a1]) (st := []) (metX6_leaves X e_v7) hc_v7 rfl rfl (lw_V q1067 q1068 q1069 q108 q1070) hdfX6_leaves ⟨by omega, by decide⟩ rfl (Nat.le_of_ble_eq_true rfl) ⟨by omega, by omega⟩ dX0_ridesFrom_29 ?_
        refine G_if_eq F (tgt := 108) dX0_ridesFrom_32 (by decide) (fun c8 => ?_) (fun c8 => ?_)
        · have h := itt c8 h
          refine G_iinc F (v := (s5_1 + (1 : Int32))) (L2 := [some (.inr a0), some (.inl a1), some (.inl a2), some (.inl a3), some (.inl s4_1), some (.inl (s5_1 + (1 : Int32))), none]) dX0_ridesFrom_108 (by decide) rfl rfl rfl ?_
          refine G_goto F (tgt := 6) dX0_ridesFrom_111 (by decide) ?_
          cases h
          exact G_sub F (L2 := [some (.inr a0), some (.inl a1), some (.inl a2), some (.inl a3), some (.inl s4_1), some (.inl (s5_1 + (1 : Int32))), none]) ⟨rfl, ⟨rfl, ⟨rfl, ⟨rfl, ⟨rfl, ⟨rfl, trivial⟩⟩⟩⟩⟩⟩ (hP1 _ rfl)
        · have h := itf c8 h
          refine G_aload_n F dX0_ridesFrom_35 rfl ?_
          obtain ⟨v9, e_v9, h⟩ := bnd h
          refine G_getR F okX0 (f := 0) (by decide) q328 rfl dX0_ridesFrom_36 e_v9 ?_
          refine G_iload F dX0_ridesFrom_39 rfl ?_
          obtain ⟨v10, e_v10, h⟩ := bnd h
          refine G_aald F (t := 5) (by decide) dX0_ridesFrom_41 e_v10 ?_
          refine G_iload_n F dX0_ridesFrom_42 rfl ?_
          obtain ⟨v11, e_v11, h⟩ := bnd h
          obtain ⟨hc_v11, e_v11⟩ := hp_on_of e_v11
          refine G_callVv F (As := [.inl a1]) (st := []) (metX6_minuteAt X e_v11) hc_v11 rfl rfl (lw_V q1072 q1073 q1074 q108 q1075) hdfX6_minuteAt ⟨by omega, by decide⟩ rfl (Nat.le_of_ble_eq_true rfl) ⟨by omega, by omega⟩ dX0_ridesFrom_43 ?_
          refine G_iload_n F dX0_ridesFrom_46 rfl ?_
          refine G_icmp_ge F (tgt := 53) dX0_ridesFrom_47 (by decide) (fun c12 => ?_) (fun c12 => ?_)
          · have h := itt c12 h
            refine G_aload_n F dX0_ridesFrom_53 rfl ?_
            obtain ⟨v13, e_v13, h⟩ := bnd h
            refine G_getR F okX0 (f := 0) (by decide) q328 rfl dX0_ridesFrom_54 e_v13 ?_
            refine G_iload F dX0_ridesFrom_57 rfl ?_
            obtain ⟨v14, e_v14, h⟩ := bnd h
            refine G_aald F (t := 5) (by decide) dX0_ridesFrom_59 e_v14 ?_
            refine G_iload_n F dX0_ridesFrom_60 rfl ?_
            obtain ⟨v15, e_v15, h⟩ := bnd h
            obtain ⟨hc_v15, e_v15⟩ := hp_on_of e_v15
            refine G_callVv F (As := [.inl a1]) (st := []) (metX6_stopAt X e_v15) hc_v15 rfl rfl (lw_V q1120 q803 q804 q108 q805) hdfX6_stopAt ⟨by omega, by decide⟩ rfl (Nat.le_of_ble_eq_true rfl) ⟨by omega, by omega⟩ dX0_ridesFrom_61 ?_
            refine G_iconst F (v := (1 : Int32)) dX0_ridesFrom_64 (by decide) ?_
            refine G_iadd F dX0_ridesFrom_65 ?_
            refine G_istore F (L2 := [some (.inr a0), some (.inl a1), some (.inl a2), some (.inl a3), some (.inl s4_1), some (.inl s5_1), some (.inl (v15 + (1 : Int32)))]) dX0_ridesFrom_66 (by decide) rfl ?_
            obtain ⟨r16, hr16, h⟩ := bnd h
            have KE16 : ∀ (v24 : Int32), v24 = r16 → G X cx 7 (Qm X cx (some (.inl rv)) m nx 0 0) (0) (0) m (nx) [some (.inr a0), some (.inl a1), some (.inl a2), some (.inl a3), some (.inl v24), some (.inl s5_1), none] [] 108 := by
              intro v24 hq
              subst hq
              try dsimp only at h
              refine G_iinc F (v := (s5_1 + (1 : Int32))) (L2 := [some (.inr a0), some (.inl a1), some (.inl a2), some (.inl a3), some (.inl v24), some (.inl (s5_1 + (1 : Int32))), none]) dX0_ridesFrom_108 (by decide) rfl rfl rfl ?_
              refine G_goto F (tgt := 6) dX0_ridesFrom_111 (by decide) ?_
              cases h
              exact G_sub F (L2 := [some (.inr a0), some (.inl a1), some (.inl a2), some (.inl a3), some (.inl v24), some (.inl (s5_1 + (1 : Int32))), none]) ⟨rfl, ⟨rfl, ⟨rfl, ⟨rfl, ⟨rfl, ⟨rfl, trivial⟩⟩⟩⟩⟩⟩ (hP1 _ rfl)
            have KB16 : ∀ s o16, fX0_ridesFrom_L68 m a0 a1 a2 a3 s5_1 s = some o16 → (∀ s', o16 = Sum.inl s' → (fun (s : (Int32 × Int32)) => match s with | (s4_16, s6_16) => G X cx 7 (Qm X cx (some (.inl rv)) m nx 0 0) (0) (0) m (nx) [some (.inr a0), some (.inl a1), some (.inl a2), some (.inl a3), some (.inl s4_16), some (.inl s5_1), some (.inl s6_16)] [] 68) s') → (∀ q, o16 = Sum.inr q → q = r16) → (fun (s : (Int32 × Int32)) => match s with | (s4_16, s6_16) => G X cx 7 (Qm X cx (some (.inl rv)) m nx 0 0) (0) (0) m (nx) [some (.inr a0), some (.inl a1), some (.inl a2), some (.inl a3), some (.inl s4_16), some (.inl s5_1), some (.inl s6_16)] [] 68) s := by
              intro s o16 h hP16 hE16
              obtain ⟨s4_16, s6_16⟩ := s
              try dsimp only at hP16 hE16 ⊢
              refine G_iload F dX0_ridesFrom_68 rfl ?_
              refine G_aload_n F dX0_ridesFrom_70 rfl ?_
              obtain ⟨v17, e_v17, h⟩ := bnd h
              refine G_getR F okX0 (f := 0) (by decide) q328 rfl dX0_ridesFrom_71 e_v17 ?_
              refine G_iload F dX0_ridesFrom_74 rfl ?_
              obtain ⟨v18, e_v18, h⟩ := bnd h
              refine G_aald F (t := 5) (by decide) dX0_ridesFrom_76 e_v18 ?_
              obtain ⟨v19, e_v19, h⟩ := bnd h
              refine G_getIN F okX6 (f := 2) (by decide) q305 rfl dX0_ridesFrom_77 e_v19 ?_
              refine G_icmp_ge F (tgt := 108) dX0_ridesFrom_80 (by decide) (fun c20 => ?_) (fun c20 => ?_)
              · have h := itt c20 h
                cases h
                exact G_sub F (L2 := [some (.inr a0), some (.inl a1), some (.inl a2), some (.inl a3), some (.inl s4_16), some (.inl s5_1), none]) ⟨rfl, ⟨rfl, ⟨rfl, ⟨rfl, ⟨rfl, ⟨rfl, trivial⟩⟩⟩⟩⟩⟩ (KE16 _ (hE16 _ rfl))
              · have h := itf c20 h
                refine G_iload F dX0_ridesFrom_83 rfl ?_
                refine G_iconst F (v := (1 : Int32)) dX0_ridesFrom_85 (by decide) ?_
                refine G_aload_n F dX0_ridesFrom_86 rfl ?_
                obtain ⟨v21, e_v21, h⟩ := bnd h
                refine G_getR F okX0 (f := 20) (by decide) q358 rfl dX0_ridesFrom_87 e_v21 ?_
                refine G_iload F dX0_ridesFrom_90 rfl ?_
                obtain ⟨v22, e_v22, h⟩ := bnd h
                refine G_aald F (t := 7) (by decide) dX0_ridesFrom_92 e_v22 ?_
                refine G_iload F dX0_ridesFrom_93 rfl ?_
                obtain ⟨v23, e_v23, h⟩ := bnd h
                refine G_iald F dX0_ridesFrom_95 e_v23 ?_
                refine G_iadd F dX0_ridesFrom_96 ?_
                refine G_mmax F q991 q514 q113 q515 (by omega) (Nat.le_of_ble_eq_true rfl) ⟨by omega, by omega⟩ dX0_ridesFrom_97 ?_
                refine G_istore F (L2 := [some (.inr a0), some (.inl a1), some (.inl a2), some (.inl a3), some (.inl (jmax s4_16 ((1 : Int32) + v23))), some (.inl s5_1), some (.inl s6_16)]) dX0_ridesFrom_100 (by decide) rfl ?_
                refine G_iinc F (v := (s6_16 + (1 : Int32))) (L2 := [some (.inr a0), some (.inl a1), some (.inl a2), some (.inl a3), some (.inl (jmax s4_16 ((1 : Int32) + v23))), some (.inl s5_1), some (.inl (s6_16 + (1 : Int32)))]) dX0_ridesFrom_102 (by decide) rfl rfl rfl ?_
                refine G_goto F (tgt := 68) dX0_ridesFrom_105 (by decide) ?_
                cases h
                exact G_sub F (L2 := [some (.inr a0), some (.inl a1), some (.inl a2), some (.inl a3), some (.inl (jmax s4_16 ((1 : Int32) + v23))), some (.inl s5_1), some (.inl (s6_16 + (1 : Int32)))]) ⟨rfl, ⟨rfl, ⟨rfl, ⟨rfl, ⟨rfl, ⟨rfl, ⟨rfl, trivial⟩⟩⟩⟩⟩⟩⟩ (hP16 _ rfl)
            have hI := iter_ok (fun (s : (Int32 × Int32)) => match s with | (s4_16, s6_16) => G X cx 7 (Qm X cx (some (.inl rv)) m nx 0 0) (0) (0) m (nx) [some (.inr a0), some (.inl a1), some (.inl a2), some (.inl a3), some (.inl s4_16), some (.inl s5_1), some (.inl s6_16)] [] 68) (fun q => q = r16) KB16 _ _ _ hr16 rfl
            exact G_sub F (L2 := [some (.inr a0), some (.inl a1), some (.inl a2), some (.inl a3), some (.inl s4_1), some (.inl s5_1), some (.inl (v15 + (1 : Int32)))]) ⟨rfl, ⟨rfl, ⟨rfl, ⟨rfl, ⟨rfl, ⟨rfl, ⟨rfl, trivial⟩⟩⟩⟩⟩⟩⟩ hI
          · have h := itf c12 h
            refine G_goto F (tgt := 108) dX0_ridesFrom_50 (by decide) ?_
            refine G_iinc F (v := (s5_1 + (1 : Int32))) (L2 := [some (.inr a0), some (.inl a1), some (.inl a2), some (.inl a3), some (.inl s4_1), some (.inl (s5_1 + (1 : Int32))), none]) dX0_ridesFrom_108 (by decide) rfl rfl rfl ?_
            refine G_goto F (tgt := 6) dX0_ridesFrom_111 (by decide) ?_
            cases h
            exact G_sub F (L2 := [some (.inr a0), some (.inl a1), some (.inl a2), some (.inl a3), some (.inl s4_1), some (.inl (s5_1 + (1 : Int32))), none]) ⟨rfl, ⟨rfl, ⟨rfl, ⟨rfl, ⟨rfl, ⟨rfl, trivial⟩⟩⟩⟩⟩⟩ (hP1 _ rfl)
  have hI := iter_ok (fun (s : (Int32 × Int32)) => match s with | (s4_1, s5_1) => G X cx 7 (Qm X cx (some (.inl rv)) m nx 0 0) (0) (0) m (nx) [some (.inr a0), some (.inl a1), some (.inl a2), some (.inl a3), some (.inl s4_1), some (.inl s5_1), none] [] 6) (fun q => q = r1) KB1 _ _ _ hr1 rfl
  exact G_sub F (L2 := [some (.inr a0), some (.inl a1), some (.inl a2), some (.inl a3), some (.inl (0 : Int32)), some (.inl (0 : Int32)), none]) ⟨rfl, ⟨rfl, ⟨rfl, ⟨rfl, ⟨rfl, ⟨rfl, trivial⟩⟩⟩⟩⟩⟩ hI

theorem metX0_inspector (X : Gx) {m : Hp} {nx : Nat} {a0 : Option Nat} {a1 : Int32} {rv : Int32} {m_ : Hp} (h : fX0_inspector m a0 a1 = some (rv, m_)) : Con X (4) yX0_inspector cX0_inspector 3 ((Option.some FieldType.int)) [.inr a0, .inl a1] m nx (some (.inl rv)) m_ 0 0 := by
  refine Con.of (own := RX0) (nm := "inspector") (L := [some (.inr a0), some (.inl a1), none]) (by decide +kernel) rfl rfl (Nat.le_of_ble_eq_true rfl) (ent_of 1 rfl) ?_
  intro cx F
  refine G_iload_n F dX0_inspector_0 rfl ?_
  obtain ⟨v1, e_v1, h⟩ := bnd h
  refine G_callSv F (As := [.inl a1]) (st := []) (metX0_isStation X e_v1) (lw_S q415 q416 q102 q417) hdfX0_isStation ⟨by omega, by decide⟩ rfl (Nat.le_of_ble_eq_true rfl) ⟨by omega, by omega⟩ dX0_inspector_1 ?_
  refine G_if_ne F (tgt := 9) dX0_inspector_4 (by decide) (fun c2 => ?_) (fun c2 => ?_)
  · have h := itf c2 h
    refine G_aload_n F dX0_inspector_9 rfl ?_
    obtain ⟨v3, e_v3, h⟩ := bnd h
    refine G_getI F okX0 (f := 4) (by decide) q337 rfl dX0_inspector_10 e_v3 ?_
    refine G_iconst F (v := (1 : Int32)) dX0_inspector_13 (by decide) ?_
    refine G_isub F dX0_inspector_14 ?_
    refine G_istore_n F (L2 := [some (.inr a0), some (.inl a1), some (.inl (v3 - (1 : Int32)))]) dX0_inspector_15 (by decide) rfl ?_
    obtain ⟨r4, hr4, h⟩ := bnd h
    have KE4 : ∀ (m26 : Hp), m26 = r4 → G X cx 3 (Qm X cx (some (.inl rv)) m_ nx 0 0) (0) (0) m26 (nx) [some (.inr a0), some (.inl a1), none] [] 85 := by
      intro m26 hq
      subst hq
      try dsimp only at h
      refine G_aload_n F dX0_inspector_85 rfl ?_
      refine G_iload_n F dX0_inspector_86 rfl ?_
      refine G_iconst F (v := (0 : Int32)) dX0_inspector_87 (by decide) ?_
      refine G_iconst F (v := (-1 : Int32)) dX0_inspector_88 (by decide) ?_
      obtain ⟨v27, e_v27, h⟩ := bnd h
      obtain ⟨hc_v27, e_v27⟩ := hp_on_of e_v27
      refine G_callVv F (As := [.inl a1, .inl (0 : Int32), .inl (-1 : Int32)]) (st := []) (metX0_ridesFrom X e_v27) hc_v27 rfl rfl (lw_V q1149 q1151 qs38 q102 q1152) hdfX0_ridesFrom ⟨by omega, by decide⟩ rfl (Nat.le_of_ble_eq_true rfl) ⟨by omega, by omega⟩ dX0_inspector_89 ?_
      cases h
      exact G_iret F rfl (Nat.le_refl _) (Nat.le_refl _) rfl dX0_inspector_92
    have KB4 : ∀ s o4, fX0_inspector_L16 a0 a1 s = some o4 → (∀ s', o4 = Sum.inl s' → (fun (s : (Int32 × Hp)) => match s with | (s2_4, m4) => G X cx 3 (Qm X cx (some (.inl rv)) m_ nx 0 0) (0) (0) m4 (nx) [some (.inr a0), some (.inl a1), some (.inl s2_4)] [] 16) s') → (∀ q, o4 = Sum.inr q → q = r4) → (fun (s : (Int32 × Hp)) => match s with | (s2_4, m4) => G X cx 3 (Qm X cx (some (.inl rv)) m_ nx 0 0) (0) (0) m4 (nx) [some (.inr a0), some (.inl a1), some (.inl s2_4)] [] 16) s := by
      intro s o4 h hP4 hE4
      obtain ⟨s2_4, m4⟩ := s
      try dsimp only at hP4 hE4 ⊢
      refine G_iload_n F dX0_inspector_16 rfl ?_
      refine G_if_lt F (tgt := 85) dX0_inspector_17 (by decide) (fun c5 => ?_) (fun c5 => ?_)
      · have h := itt c5 h
        cases h
        exact G_sub F (L2 := [some (.inr a0), some (.inl a1), none]) ⟨rfl, ⟨rfl, trivial⟩⟩ (KE4 _ (hE4 _ rfl))
      · have h := itf c5 h
        refine G_aload_n F dX0_inspector_20 rfl ?_
        obtain ⟨v6, e_v6, h⟩ := bnd h
        refine G_getR F okX0 (f := 20) (by decide) q358 rfl dX0_inspector_21 e_v6 ?_
        refine G_aload_n F dX0_inspector_24 rfl ?_
        obtain ⟨v7, e_v7, h⟩ := bnd h
        refine G_getR F okX0 (f := 1) (by decide) q330 rfl dX0_inspector_25 e_v7 ?_
        refine G_iload_n F dX0_inspector_28 rfl ?_
        obtain ⟨v8, e_v8, h⟩ := bnd h
        refine G_iald F dX0_inspector_29 e_v8 ?_
        obtain ⟨v9, e_v9, h⟩ := bnd h
        refine G_aald F (t := 7) (by decide) dX0_inspector_30 e_v9 ?_
        refine G_aload_n F dX0_inspector_31 rfl ?_
        obtain ⟨v10, e_v10, h⟩ := bnd h
        refine G_getR F okX0 (f := 2) (by decide) q332 rfl dX0_inspector_32 e_v10 ?_
        refine G_iload_n F dX0_inspector_35 rfl ?_
        obtain ⟨v11, e_v11, h⟩ := bnd h
        refine G_iald F dX0_inspector_36 e_v11 ?_
        refine G_aload_n F dX0_inspector_37 rfl ?_
        refine G_aload_n F dX0_inspector_38 rfl ?_
        obtain ⟨v12, e_v12, h⟩ := bnd h
        refine G_getR F okX0 (f := 0) (by decide) q328 rfl dX0_inspector_39 e_v12 ?_
        refine G_aload_n F dX0_inspector_42 rfl ?_
        obtain ⟨v13, e_v13, h⟩ := bnd h
        refine G_getR F okX0 (f := 1) (by decide) q330 rfl dX0_inspector_43 e_v13 ?_
        refine G_iload_n F dX0_inspector_46 rfl ?_
        obtain ⟨v14, e_v14, h⟩ := bnd h
        refine G_iald F dX0_inspector_47 e_v14 ?_
        obtain ⟨v15, e_v15, h⟩ := bnd h
        refine G_aald F (t := 5) (by decide) dX0_inspector_48 e_v15 ?_
        obtain ⟨v16, e_v16, h⟩ := bnd h
        refine G_getRN F okX6 (f := 0) (by decide) q298 rfl dX0_inspector_49 e_v16 ?_
        refine G_aload_n F dX0_inspector_52 rfl ?_
        obtain ⟨v17, e_v17, h⟩ := bnd h
        refine G_getR F okX0 (f := 2) (by decide) q332 rfl dX0_inspector_53 e_v17 ?_
        refine G_iload_n F dX0_inspector_56 rfl ?_
        obtain ⟨v18, e_v18, h⟩ := bnd h
        refine G_iald F dX0_inspector_57 e_v18 ?_
        obtain ⟨v19, e_v19, h⟩ := bnd h
        refine G_iald F dX0_inspector_58 e_v19 ?_
        refine G_aload_n F dX0_inspector_59 rfl ?_
        refine G_iload_n F dX0_inspector_60 rfl ?_
        obtain ⟨v20, e_v20, h⟩ := bnd h
        obtain ⟨hc_v20, e_v20⟩ := hp_on_of e_v20
        refine G_callVv F (As := [.inl s2_4]) (st := [.inl v19, .inr a0, .inl v11, .inr v9]) (metX0_minuteOf X e_v20) hc_v20 rfl rfl (lw_V q870 q872 qs20 q102 q873) hdfX0_minuteOf ⟨by omega, by decide⟩ rfl (Nat.le_of_ble_eq_true rfl) ⟨by omega, by omega⟩ dX0_inspector_61 ?_
        refine G_aload_n F dX0_inspector_64 rfl ?_
        obtain ⟨v21, e_v21, h⟩ := bnd h
        refine G_getI F okX0 (f := 5) (by decide) q339 rfl dX0_inspector_65 e_v21 ?_
        refine G_iadd F dX0_inspector_68 ?_
        refine G_aload_n F dX0_inspector_69 rfl ?_
        obtain ⟨v22, e_v22, h⟩ := bnd h
        refine G_getR F okX0 (f := 1) (by decide) q330 rfl dX0_inspector_70 e_v22 ?_
        refine G_iload_n F dX0_inspector_73 rfl ?_
        obtain ⟨v23, e_v23, h⟩ := bnd h
        refine G_iald F dX0_inspector_74 e_v23 ?_
        obtain ⟨v24, e_v24, h⟩ := bnd h
        obtain ⟨hc_v24, e_v24⟩ := hp_on_of e_v24
        refine G_callVv F (As := [.inl v19, .inl (v20 + v21), .inl v23]) (st := [.inl v11, .inr v9]) (metX0_ridesFrom X e_v24) hc_v24 rfl rfl (lw_V q1149 q1151 qs38 q102 q1152) hdfX0_ridesFrom ⟨by omega, by decide⟩ rfl (Nat.le_of_ble_eq_true rfl) ⟨by omega, by omega⟩ dX0_inspector_75 ?_
        obtain ⟨m25, e_m25, h⟩ := bnd h
        refine G_iast F dX0_inspector_78 e_m25 ?_
        refine G_iinc F (v := (s2_4 + (-1 : Int32))) (L2 := [some (.inr a0), some (.inl a1), some (.inl (s2_4 + (-1 : Int32)))]) dX0_inspector_79 (by decide) rfl rfl rfl ?_
        refine G_goto F (tgt := 16) dX0_inspector_82 (by decide) ?_
        cases h
        exact G_sub F (L2 := [some (.inr a0), some (.inl a1), some (.inl (s2_4 + (-1 : Int32)))]) ⟨rfl, ⟨rfl, ⟨rfl, trivial⟩⟩⟩ (hP4 _ rfl)
    have hI := iter_ok (fun (s : (Int32 × Hp)) => match s with | (s2_4, m4) => G X cx 3 (Qm X cx (some (.inl rv)) m_ nx 0 0) (0) (0) m4 (nx) [some (.inr a0), some (.inl a1), some (.inl s2_4)] [] 16) (fun q => q = r4) KB4 _ _ _ hr4 rfl
    exact G_sub F (L2 := [some (.inr a0), some (.inl a1), some (.inl (v3 - (1 : Int32)))]) ⟨rfl, ⟨rfl, ⟨rfl, trivial⟩⟩⟩ hI
  · have h := itt c2 h
    refine G_iconst F (v := (-1 : Int32)) dX0_inspector_7 (by decide) ?_
    cases h
    exact G_iret F rfl (Nat.le_refl _) (Nat.le_refl _) rfl dX0_inspector_8

theorem metX0_longestWait (X : Gx) {m : Hp} {nx : Nat} {a0 : Option Nat} {a1 : Int32} {rv : Int32} (h : fX0_longestWait m a0 a1 = some rv) : Con X (3) yX0_longestWait cX0_longestWait 6 ((Option.some FieldType.int)) [.inr a0, .inl a1] m nx (some (.inl rv)) m 0 0 := by
  refine Con.of (own := RX0) (nm := "longestWait") (L := [some (.inr a0), some (.inl a1), none, none, none, none]) (by decide +kernel) rfl rfl (Nat.le_of_ble_eq_true rfl) (ent_of 4 rfl) ?_
  intro cx F
  refine G_iload_n F dX0_longestWait_0 rfl ?_
  obtain ⟨v1, e_v1, h⟩ := bnd h
  refine G_callSv F (As := [.inl a1]) (st := []) (metX0_isStation X e_v1) (lw_S q415 q416 q102 q417) hdfX0_isStation ⟨by omega, by decide⟩ rfl (Nat.le_of_ble_eq_true rfl) ⟨by omega, by omega⟩ dX0_longestWait_1 ?_
  refine G_if_ne F (tgt := 9) dX0_longestWait_4 (by decide) (fun c2 => ?_) (fun c2 => ?_)
  · have h := itf c2 h
    refine G_iconst F (v := (0 : Int32)) dX0_longestWait_9 (by decide) ?_
    refine G_istore_n F (L2 := [some (.inr a0), some (.inl a1), some (.inl (0 : Int32)), none, none, none]) dX0_longestWait_10 (by decide) rfl ?_
    refine G_iconst F (v := (-1 : Int32)) dX0_longestWait_11 (by decide) ?_
    refine G_istore_n F (L2 := [some (.inr a0), some (.inl a1), some (.inl (0 : Int32)), some (.inl (-1 : Int32)), none, none]) dX0_longestWait_12 (by decide) rfl ?_
    refine G_iconst F (v := (0 : Int32)) dX0_longestWait_13 (by decide) ?_
    refine G_istore F (L2 := [some (.inr a0), some (.inl a1), some (.inl (0 : Int32)), some (.inl (-1 : Int32)), some (.inl (0 : Int32)), none]) dX0_longestWait_14 (by decide) rfl ?_
    obtain ⟨r3, hr3, h⟩ := bnd h
    have KE3 : ∀ (v22 : Int32), v22 = r3 → G X cx 6 (Qm X cx (some (.inl rv)) m nx 0 0) (0) (0) m (nx) [none, none, some (.inl v22), none, none, none] [] 103 := by
      intro v22 hq
      subst hq
      try dsimp only at h
      refine G_iload_n F dX0_longestWait_103 rfl ?_
      cases h
      exact G_iret F rfl (Nat.le_refl _) (Nat.le_refl _) rfl dX0_longestWait_104
    have KB3 : ∀ s o3, fX0_longestWait_L16 m a0 a1 s = some o3 → (∀ s', o3 = Sum.inl s' → (fun (s : (Int32 × Int32 × Int32)) => match s with | (s2_3, s3_3, s4_3) => G X cx 6 (Qm X cx (some (.inl rv)) m nx 0 0) (0) (0) m (nx) [some (.inr a0), some (.inl a1), some (.inl s2_3), some (.inl s3_3), some (.inl s4_3), none] [] 16) s') → (∀ q, o3 = Sum.inr q → q = r3) → (fun (s : (Int32 × Int32 × Int32)) => match s with | (s2_3, s3_3, s4_3) => G X cx 6 (Qm X cx (some (.inl rv)) m nx 0 0) (0) (0) m (nx) [some (.inr a0), some (.inl a1), some (.inl s2_3), some (.inl s3_3), some (.inl s4_3), none] [] 16) s := by
      intro s o3 h hP3 hE3
      obtain ⟨s2_3, s3_3, s4_3⟩ := s
      try dsimp only at hP3 hE3 ⊢
      refine G_iload F dX0_longestWait_16 rfl ?_
      refine G_aload_n F dX0_longestWait_18 rfl ?_
      obtain ⟨v4, e_v4, h⟩ := bnd h
      refine G_getI F okX0 (f := 4) (by decide) q337 rfl dX0_longestWait_19 e_v4 ?_
      refine G_icmp_ge F (tgt := 103) dX0_longestWait_22 (by decide) (fun c5 => ?_) (fun c5 => ?_)
      · have h := itt c5 h
        cases h
        exact G_sub F (L2 := [none, none, some (.inl s2_3), none, none, none]) ⟨rfl, trivial⟩ (KE3 _ (hE3 _ rfl))
      · have h := itf c5 h
        refine G_aload_n F dX0_longestWait_25 rfl ?_
        obtain ⟨v6, e_v6, h⟩ := bnd h
        refine G_getR F okX0 (f := 0) (by decide) q328 rfl dX0_longestWait_26 e_v6 ?_
        refine G_aload_n F dX0_longestWait_29 rfl ?_
        obtain ⟨v7, e_v7, h⟩ := bnd h
        refine G_getR F okX0 (f := 1) (by decide) q330 rfl dX0_longestWait_30 e_v7 ?_
        refine G_iload F dX0_longestWait_33 rfl ?_
        obtain ⟨v8, e_v8, h⟩ := bnd h
        refine G_iald F dX0_longestWait_35 e_v8 ?_
        obtain ⟨v9, e_v9, h⟩ := bnd h
        refine G_aald F (t := 5) (by decide) dX0_longestWait_36 e_v9 ?_
        refine G_astore F (L2 := [some (.inr a0), some (.inl a1), some (.inl s2_3), some (.inl s3_3), some (.inl s4_3), some (.inr v9)]) dX0_longestWait_37 (by decide) rfl ?_
        refine G_aload F dX0_longestWait_39 rfl ?_
        refine G_iload_n F dX0_longestWait_41 rfl ?_
        obtain ⟨v10, e_v10, h⟩ := bnd h
        obtain ⟨hc_v10, e_v10⟩ := hp_on_of e_v10
        refine G_callVv F (As := [.inl a1]) (st := []) (metX6_leaves X e_v10) hc_v10 rfl rfl (lw_V q1067 q1068 q1069 q108 q1070) hdfX6_leaves ⟨by omega, by decide⟩ rfl (Nat.le_of_ble_eq_true rfl) ⟨by omega, by omega⟩ dX0_longestWait_42 ?_
        refine G_if_eq F (tgt := 97) dX0_longestWait_45 (by decide) (fun c11 => ?_) (fun c11 => ?_)
        · have h := itt c11 h
          refine G_iinc F (v := (s4_3 + (1 : Int32))) (L2 := [some (.inr a0), some (.inl a1), some (.inl s2_3), some (.inl s3_3), some (.inl (s4_3 + (1 : Int32))), some (.inr v9)]) dX0_longestWait_97 (by decide) rfl rfl rfl ?_
          refine G_goto F (tgt := 16) dX0_longestWait_100 (by decide) ?_
          cases h
          exact G_sub F (L2 := [some (.inr a0), some (.inl a1), some (.inl s2_3), some (.inl s3_3), some (.inl (s4_3 + (1 : Int32))), none]) ⟨rfl, ⟨rfl, ⟨rfl, ⟨rfl, ⟨rfl, trivial⟩⟩⟩⟩⟩ (hP3 _ rfl)
        · have h := itf c11 h
          refine G_aload F dX0_longestWait_48 rfl ?_
          obtain ⟨v12, e_v12, h⟩ := bnd h
          refine G_getRN F okX6 (f := 0) (by decide) q298 rfl dX0_longestWait_50 e_v12 ?_
          refine G_aload_n F dX0_longestWait_53 rfl ?_
          obtain ⟨v13, e_v13, h⟩ := bnd h
          refine G_getR F okX0 (f := 2) (by decide) q332 rfl dX0_longestWait_54 e_v13 ?_
          refine G_iload F dX0_longestWait_57 rfl ?_
          obtain ⟨v14, e_v14, h⟩ := bnd h
          refine G_iald F dX0_longestWait_59 e_v14 ?_
          obtain ⟨v15, e_v15, h⟩ := bnd h
          refine G_iald F dX0_longestWait_60 e_v15 ?_
          refine G_iload_n F dX0_longestWait_61 rfl ?_
          refine G_icmp_eq F (tgt := 68) dX0_longestWait_62 (by decide) (fun c16 => ?_) (fun c16 => ?_)
          · have h := itt c16 h
            refine G_iload_n F dX0_longestWait_68 rfl ?_
            refine G_iconst F (v := (-1 : Int32)) dX0_longestWait_69 (by decide) ?_
            obtain ⟨p18, hp18, h⟩ := bnd h
            have K18 : ∀ (v17 : Int32), v17 = p18 → G X cx 6 (Qm X cx (some (.inl rv)) m nx 0 0) (0) (0) m (nx) [some (.inr a0), some (.inl a1), none, none, some (.inl s4_3), none] [.inl v17] 89 := by
              intro v17 hq
              subst hq
              try dsimp only at h
              refine G_istore_n F (L2 := [some (.inr a0), some (.inl a1), some (.inl v17), none, some (.inl s4_3), none]) dX0_longestWait_89 (by decide) rfl ?_
              refine G_aload_n F dX0_longestWait_90 rfl ?_
              refine G_iload F dX0_longestWait_91 rfl ?_
              obtain ⟨v19, e_v19, h⟩ := bnd h
              obtain ⟨hc_v19, e_v19⟩ := hp_on_of e_v19
              refine G_callVv F (As := [.inl s4_3]) (st := []) (metX0_minuteOf X e_v19) hc_v19 rfl rfl (lw_V q870 q872 qs20 q102 q873) hdfX0_minuteOf ⟨by omega, by decide⟩ rfl (Nat.le_of_ble_eq_true rfl) ⟨by omega, by omega⟩ dX0_longestWait_93 ?_
              refine G_istore_n F (L2 := [some (.inr a0), some (.inl a1), some (.inl v17), some (.inl v19), some (.inl s4_3), none]) dX0_longestWait_96 (by decide) rfl ?_
              refine G_iinc F (v := (s4_3 + (1 : Int32))) (L2 := [some (.inr a0), some (.inl a1), some (.inl v17), some (.inl v19), some (.inl (s4_3 + (1 : Int32))), none]) dX0_longestWait_97 (by decide) rfl rfl rfl ?_
              refine G_goto F (tgt := 16) dX0_longestWait_100 (by decide) ?_
              cases h
              exact G_sub F (L2 := [some (.inr a0), some (.inl a1), some (.inl v17), some (.inl v19), some (.inl (s4_3 + (1 : Int32))), none]) ⟨rfl, ⟨rfl, ⟨rfl, ⟨rfl, ⟨rfl, trivial⟩⟩⟩⟩⟩ (hP3 _ rfl)
            have h := hp18
            clear hp18
            refine G_icmp_ne F (tgt := 77) dX0_longestWait_70 (by decide) (fun c20 => ?_) (fun c20 => ?_)
            · have h := itf c20 h
              refine G_iload_n F dX0_longestWait_77 rfl ?_
              refine G_aload_n F dX0_longestWait_78 rfl ?_
              refine G_iload F dX0_longestWait_79 rfl ?_
              obtain ⟨v21, e_v21, h⟩ := bnd h
              obtain ⟨hc_v21, e_v21⟩ := hp_on_of e_v21
              refine G_callVv F (As := [.inl s4_3]) (st := [.inl s2_3]) (metX0_minuteOf X e_v21) hc_v21 rfl rfl (lw_V q870 q872 qs20 q102 q873) hdfX0_minuteOf ⟨by omega, by decide⟩ rfl (Nat.le_of_ble_eq_true rfl) ⟨by omega, by omega⟩ dX0_longestWait_81 ?_
              refine G_iload_n F dX0_longestWait_84 rfl ?_
              refine G_isub F dX0_longestWait_85 ?_
              refine G_mmax F q991 q514 q113 q515 (by omega) (Nat.le_of_ble_eq_true rfl) ⟨by omega, by omega⟩ dX0_longestWait_86 ?_
              have hq_ := Option.some.inj h
              exact G_sub F (L2 := [some (.inr a0), some (.inl a1), none, none, some (.inl s4_3), none]) ⟨rfl, ⟨rfl, ⟨rfl, trivial⟩⟩⟩ (K18 _ hq_)
            · have h := itt c20 h
              refine G_iconst F (v := (0 : Int32)) dX0_longestWait_73 (by decide) ?_
              refine G_goto F (tgt := 89) dX0_longestWait_74 (by decide) ?_
              have hq_ := Option.some.inj h
              exact G_sub F (L2 := [some (.inr a0), some (.inl a1), none, none, some (.inl s4_3), none]) ⟨rfl, ⟨rfl, ⟨rfl, trivial⟩⟩⟩ (K18 _ hq_)
          · have h := itf c16 h
            refine G_goto F (tgt := 97) dX0_longestWait_65 (by decide) ?_
            refine G_iinc F (v := (s4_3 + (1 : Int32))) (L2 := [some (.inr a0), some (.inl a1), some (.inl s2_3), some (.inl s3_3), some (.inl (s4_3 + (1 : Int32))), some (.inr v9)]) dX0_longestWait_97 (by decide) rfl rfl rfl ?_
            refine G_goto F (tgt := 16) dX0_longestWait_100 (by decide) ?_
            cases h
            exact G_sub F (L2 := [some (.inr a0), some (.inl a1), some (.inl s2_3), some (.inl s3_3), some (.inl (s4_3 + (1 : Int32))), none]) ⟨rfl, ⟨rfl, ⟨rfl, ⟨rfl, ⟨rfl, trivial⟩⟩⟩⟩⟩ (hP3 _ rfl)
    have hI := iter_ok (fun (s : (Int32 × Int32 × Int32)) => match s with | (s2_3, s3_3, s4_3) => G X cx 6 (Qm X cx (some (.inl rv)) m nx 0 0) (0) (0) m (nx) [some (.inr a0), some (.inl a1), some (.inl s2_3), some (.inl s3_3), some (.inl s4_3), none] [] 16) (fun q => q = r3) KB3 _ _ _ hr3 rfl
    exact G_sub F (L2 := [some (.inr a0), some (.inl a1), some (.inl (0 : Int32)), some (.inl (-1 : Int32)), some (.inl (0 : Int32)), none]) ⟨rfl, ⟨rfl, ⟨rfl, ⟨rfl, ⟨rfl, trivial⟩⟩⟩⟩⟩ hI
  · have h := itt c2 h
    refine G_iconst F (v := (-1 : Int32)) dX0_longestWait_7 (by decide) ?_
    cases h
    exact G_iret F rfl (Nat.le_refl _) (Nat.le_refl _) rfl dX0_longestWait_8

theorem metX0_stopping (X : Gx) {m : Hp} {nx : Nat} {a0 : Option Nat} {a1 : Int32} {rv : Int32} (h : fX0_stopping m a0 a1 = some rv) : Con X (3) yX0_stopping cX0_stopping 4 ((Option.some FieldType.int)) [.inr a0, .inl a1] m nx (some (.inl rv)) m 0 0 := by
  refine Con.of (own := RX0) (nm := "stopping") (L := [some (.inr a0), some (.inl a1), none, none]) (by decide +kernel) rfl rfl (Nat.le_of_ble_eq_true rfl) (ent_of 2 rfl) ?_
  intro cx F
  refine G_iconst F (v := (0 : Int32)) dX0_stopping_0 (by decide) ?_
  refine G_istore_n F (L2 := [some (.inr a0), some (.inl a1), some (.inl (0 : Int32)), none]) dX0_stopping_1 (by decide) rfl ?_
  refine G_iconst F (v := (0 : Int32)) dX0_stopping_2 (by decide) ?_
  refine G_istore_n F (L2 := [some (.inr a0), some (.inl a1), some (.inl (0 : Int32)), some (.inl (0 : Int32))]) dX0_stopping_3 (by decide) rfl ?_
  obtain ⟨r1, hr1, h⟩ := bnd h
  have KE1 : ∀ (v6 : Int32), v6 = r1 → G X cx 4 (Qm X cx (some (.inl rv)) m nx 0 0) (0) (0) m (nx) [none, none, some (.inl v6), none] [] 35 := by
    intro v6 hq
    subst hq
    try dsimp only at h
    refine G_iload_n F dX0_stopping_35 rfl ?_
    cases h
    exact G_iret F rfl (Nat.le_refl _) (Nat.le_refl _) rfl dX0_stopping_36
  have KB1 : ∀ s o1, fX0_stopping_L4 m a0 a1 s = some o1 → (∀ s', o1 = Sum.inl s' → (fun (s : (Int32 × Int32)) => match s with | (s2_1, s3_1) => G X cx 4 (Qm X cx (some (.inl rv)) m nx 0 0) (0) (0) m (nx) [some (.inr a0), some (.inl a1), some (.inl s2_1), some (.inl s3_1)] [] 4) s') → (∀ q, o1 = Sum.inr q → q = r1) → (fun (s : (Int32 × Int32)) => match s with | (s2_1, s3_1) => G X cx 4 (Qm X cx (some (.inl rv)) m nx 0 0) (0) (0) m (nx) [some (.inr a0), some (.inl a1), some (.inl s2_1), some (.inl s3_1)] [] 4) s := by
    intro s o1 h hP1 hE1
    obtain ⟨s2_1, s3_1⟩ := s
    try dsimp only at hP1 hE1 ⊢
    refine G_iload_n F dX0_stopping_4 rfl ?_
    refine G_aload_n F dX0_stopping_5 rfl ?_
    obtain ⟨v2, e_v2, h⟩ := bnd h
    refine G_getI F okX0 (f := 3) (by decide) q335 rfl dX0_stopping_6 e_v2 ?_
    refine G_icmp_ge F (tgt := 35) dX0_stopping_9 (by decide) (fun c3 => ?_) (fun c3 => ?_)
    · have h := itt c3 h
      cases h
      exact G_sub F (L2 := [none, none, some (.inl s2_1), none]) ⟨rfl, trivial⟩ (KE1 _ (hE1 _ rfl))
    · have h := itf c3 h
      refine G_iload_n F dX0_stopping_12 rfl ?_
      refine G_aload_n F dX0_stopping_13 rfl ?_
      refine G_iload_n F dX0_stopping_14 rfl ?_
      refine G_iload_n F dX0_stopping_15 rfl ?_
      obtain ⟨v4, e_v4, h⟩ := bnd h
      obtain ⟨hc_v4, e_v4⟩ := hp_on_of e_v4
      refine G_callVv F (As := [.inl s3_1, .inl a1]) (st := [.inl s2_1]) (metX0_isAt X e_v4) hc_v4 rfl rfl (lw_V q1116 q1118 qs33 q102 q1119) hdfX0_isAt ⟨by omega, by decide⟩ rfl (Nat.le_of_ble_eq_true rfl) ⟨by omega, by omega⟩ dX0_stopping_16 ?_
      refine G_if_eq F (tgt := 26) dX0_stopping_19 (by decide) (fun c5 => ?_) (fun c5 => ?_)
      · have h := itt c5 h
        refine G_iconst F (v := (0 : Int32)) dX0_stopping_26 (by decide) ?_
        refine G_iadd F dX0_stopping_27 ?_
        refine G_istore_n F (L2 := [some (.inr a0), some (.inl a1), some (.inl (s2_1 + (0 : Int32))), some (.inl s3_1)]) dX0_stopping_28 (by decide) rfl ?_
        refine G_iinc F (v := (s3_1 + (1 : Int32))) (L2 := [some (.inr a0), some (.inl a1), some (.inl (s2_1 + (0 : Int32))), some (.inl (s3_1 + (1 : Int32)))]) dX0_stopping_29 (by decide) rfl rfl rfl ?_
        refine G_goto F (tgt := 4) dX0_stopping_32 (by decide) ?_
        cases h
        exact G_sub F (L2 := [some (.inr a0), some (.inl a1), some (.inl (s2_1 + (0 : Int32))), some (.inl (s3_1 + (1 : Int32)))]) ⟨rfl, ⟨rfl, ⟨rfl, ⟨rfl, trivial⟩⟩⟩⟩ (hP1 _ rfl)
      · have h := itf c5 h
        refine G_iconst F (v := (1 : Int32)) dX0_stopping_22 (by decide) ?_
        refine G_goto F (tgt := 27) dX0_stopping_23 (by decide) ?_
        refine G_iadd F dX0_stopping_27 ?_
        refine G_istore_n F (L2 := [some (.inr a0), some (.inl a1), some (.inl (s2_1 + (1 : Int32))), some (.inl s3_1)]) dX0_stopping_28 (by decide) rfl ?_
        refine G_iinc F (v := (s3_1 + (1 : Int32))) (L2 := [some (.inr a0), some (.inl a1), some (.inl (s2_1 + (1 : Int32))), some (.inl (s3_1 + (1 : Int32)))]) dX0_stopping_29 (by decide) rfl rfl rfl ?_
        refine G_goto F (tgt := 4) dX0_stopping_32 (by decide) ?_
        cases h
        exact G_sub F (L2 := [some (.inr a0), some (.inl a1), some (.inl (s2_1 + (1 : Int32))), some (.inl (s3_1 + (1 : Int32)))]) ⟨rfl, ⟨rfl, ⟨rfl, ⟨rfl, trivial⟩⟩⟩⟩ (hP1 _ rfl)
  have hI := iter_ok (fun (s : (Int32 × Int32)) => match s with | (s2_1, s3_1) => G X cx 4 (Qm X cx (some (.inl rv)) m nx 0 0) (0) (0) m (nx) [some (.inr a0), some (.inl a1), some (.inl s2_1), some (.inl s3_1)] [] 4) (fun q => q = r1) KB1 _ _ _ hr1 rfl
  exact G_sub F (L2 := [some (.inr a0), some (.inl a1), some (.inl (0 : Int32)), some (.inl (0 : Int32))]) ⟨rfl, ⟨rfl, ⟨rfl, ⟨rfl, trivial⟩⟩⟩⟩ hI
