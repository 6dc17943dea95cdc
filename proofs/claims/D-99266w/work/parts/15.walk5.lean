set_option maxRecDepth 100000
set_option linter.unusedVariables false
theorem metX0_busiest (X : Gx) {m : Hp} {nx : Nat} {a0 : Option Nat} {a1 : Int32} {rv : Int32} (h : fX0_busiest m a0 a1 = some rv) : Con X (4) yX0_busiest cX0_busiest 4 ((Option.some FieldType.int)) [.inr a0, .inl a1] m nx (some (.inl rv)) m 0 0 := by
  refine Con.of (own := RX0) (nm := "busiest") (L := [some (.inr a0), some (.inl a1), none, none]) (by decide +kernel) rfl rfl (Nat.le_of_ble_eq_true rfl) (ent_of 2 rfl) ?_
  intro cx F
  refine G_iload_n F dX0_busiest_0 rfl ?_
  refine G_iconst F (v := (2 : Int32)) dX0_busiest_1 (by decide) ?_
  obtain ⟨v1, e_v1, h⟩ := bnd h
  refine G_callSv F (As := [.inl a1, .inl (2 : Int32)]) (st := []) (metX0_in X e_v1) (lw_S q409 q410 q102 q411) hdfX0_in ⟨by omega, by decide⟩ rfl (Nat.le_of_ble_eq_true rfl) ⟨by omega, by omega⟩ dX0_busiest_2 ?_
  refine G_if_ne F (tgt := 10) dX0_busiest_5 (by decide) (fun c2 => ?_) (fun c2 => ?_)
  · have h := itf c2 h
    refine G_iconst F (v := (0 : Int32)) dX0_busiest_10 (by decide) ?_
    refine G_istore_n F (L2 := [some (.inr a0), some (.inl a1), some (.inl (0 : Int32)), none]) dX0_busiest_11 (by decide) rfl ?_
    refine G_iconst F (v := (1 : Int32)) dX0_busiest_12 (by decide) ?_
    refine G_istore_n F (L2 := [some (.inr a0), some (.inl a1), some (.inl (0 : Int32)), some (.inl (1 : Int32))]) dX0_busiest_13 (by decide) rfl ?_
    obtain ⟨r3, hr3, h⟩ := bnd h
    have KE3 : ∀ (v8 : Int32), v8 = r3 → G X cx 4 (Qm X cx (some (.inl rv)) m nx 0 0) (0) (0) m (nx) [some (.inr a0), some (.inl a1), some (.inl v8), none] [] 41 := by
      intro v8 hq
      subst hq
      try dsimp only at h
      refine G_iload_n F dX0_busiest_41 rfl ?_
      refine G_iconst F (v := (1 : Int32)) dX0_busiest_42 (by decide) ?_
      refine G_icmp_ne F (tgt := 54) dX0_busiest_43 (by decide) (fun c9 => ?_) (fun c9 => ?_)
      · have h := itf c9 h
        refine G_aload_n F dX0_busiest_54 rfl ?_
        refine G_iload_n F dX0_busiest_55 rfl ?_
        obtain ⟨v10, e_v10, h⟩ := bnd h
        obtain ⟨hc_v10, e_v10⟩ := hp_on_of e_v10
        refine G_callVv F (As := [.inl v8]) (st := []) (metX0_stopping X e_v10) hc_v10 rfl rfl (lw_V q1161 q1163 qs39 q102 q1164) hdfX0_stopping ⟨by omega, by decide⟩ rfl (Nat.le_of_ble_eq_true rfl) ⟨by omega, by omega⟩ dX0_busiest_56 ?_
        refine G_if_ne F (tgt := 67) dX0_busiest_59 (by decide) (fun c11 => ?_) (fun c11 => ?_)
        · have h := itf c11 h
          refine G_iload_n F dX0_busiest_67 rfl ?_
          cases h
          exact G_iret F rfl (Nat.le_refl _) (Nat.le_refl _) rfl dX0_busiest_68
        · have h := itt c11 h
          refine G_bipush F (v := (-2 : Int32)) dX0_busiest_62 (by decide) ?_
          refine G_goto F (tgt := 68) dX0_busiest_64 (by decide) ?_
          cases h
          exact G_iret F rfl (Nat.le_refl _) (Nat.le_refl _) rfl dX0_busiest_68
      · have h := itt c9 h
        refine G_aload_n F dX0_busiest_46 rfl ?_
        refine G_iload_n F dX0_busiest_47 rfl ?_
        obtain ⟨v12, e_v12, h⟩ := bnd h
        obtain ⟨hc_v12, e_v12⟩ := hp_on_of e_v12
        refine G_callVv F (As := [.inl v8]) (st := []) (metX0_stopping X e_v12) hc_v12 rfl rfl (lw_V q1161 q1163 qs39 q102 q1164) hdfX0_stopping ⟨by omega, by decide⟩ rfl (Nat.le_of_ble_eq_true rfl) ⟨by omega, by omega⟩ dX0_busiest_48 ?_
        refine G_goto F (tgt := 68) dX0_busiest_51 (by decide) ?_
        cases h
        exact G_iret F rfl (Nat.le_refl _) (Nat.le_refl _) rfl dX0_busiest_68
    have KB3 : ∀ s o3, fX0_busiest_L14 m a0 a1 s = some o3 → (∀ s', o3 = Sum.inl s' → (fun (s : (Int32 × Int32)) => match s with | (s2_3, s3_3) => G X cx 4 (Qm X cx (some (.inl rv)) m nx 0 0) (0) (0) m (nx) [some (.inr a0), some (.inl a1), some (.inl s2_3), some (.inl s3_3)] [] 14) s') → (∀ q, o3 = Sum.inr q → q = r3) → (fun (s : (Int32 × Int32)) => match s with | (s2_3, s3_3) => G X cx 4 (Qm X cx (some (.inl rv)) m nx 0 0) (0) (0) m (nx) [some (.inr a0), some (.inl a1), some (.inl s2_3), some (.inl s3_3)] [] 14) s := by
      intro s o3 h hP3 hE3
      obtain ⟨s2_3, s3_3⟩ := s
      try dsimp only at hP3 hE3 ⊢
      refine G_iload_n F dX0_busiest_14 rfl ?_
      refine G_bipush F (v := (10 : Int32)) dX0_busiest_15 (by decide) ?_
      refine G_icmp_ge F (tgt := 41) dX0_busiest_17 (by decide) (fun c4 => ?_) (fun c4 => ?_)
      · have h := itt c4 h
        cases h
        exact G_sub F (L2 := [some (.inr a0), some (.inl a1), some (.inl s2_3), none]) ⟨rfl, ⟨rfl, ⟨rfl, trivial⟩⟩⟩ (KE3 _ (hE3 _ rfl))
      · have h := itf c4 h
        refine G_aload_n F dX0_busiest_20 rfl ?_
        refine G_iload_n F dX0_busiest_21 rfl ?_
        obtain ⟨v5, e_v5, h⟩ := bnd h
        obtain ⟨hc_v5, e_v5⟩ := hp_on_of e_v5
        refine G_callVv F (As := [.inl s3_3]) (st := []) (metX0_stopping X e_v5) hc_v5 rfl rfl (lw_V q1161 q1163 qs39 q102 q1164) hdfX0_stopping ⟨by omega, by decide⟩ rfl (Nat.le_of_ble_eq_true rfl) ⟨by omega, by omega⟩ dX0_busiest_22 ?_
        refine G_aload_n F dX0_busiest_25 rfl ?_
        refine G_iload_n F dX0_busiest_26 rfl ?_
        obtain ⟨v6, e_v6, h⟩ := bnd h
        obtain ⟨hc_v6, e_v6⟩ := hp_on_of e_v6
        refine G_callVv F (As := [.inl s2_3]) (st := [.inl v5]) (metX0_stopping X e_v6) hc_v6 rfl rfl (lw_V q1161 q1163 qs39 q102 q1164) hdfX0_stopping ⟨by omega, by decide⟩ rfl (Nat.le_of_ble_eq_true rfl) ⟨by omega, by omega⟩ dX0_busiest_27 ?_
        refine G_icmp_le F (tgt := 35) dX0_busiest_30 (by decide) (fun c7 => ?_) (fun c7 => ?_)
        · have h := itt c7 h
          refine G_iinc F (v := (s3_3 + (1 : Int32))) (L2 := [some (.inr a0), some (.inl a1), some (.inl s2_3), some (.inl (s3_3 + (1 : Int32)))]) dX0_busiest_35 (by decide) rfl rfl rfl ?_
          refine G_goto F (tgt := 14) dX0_busiest_38 (by decide) ?_
          cases h
          exact G_sub F (L2 := [some (.inr a0), some (.inl a1), some (.inl s2_3), some (.inl (s3_3 + (1 : Int32)))]) ⟨rfl, ⟨rfl, ⟨rfl, ⟨rfl, trivial⟩⟩⟩⟩ (hP3 _ rfl)
        · have h := itf c7 h
          refine G_iload_n F dX0_busiest_33 rfl ?_
          refine G_istore_n F (L2 := [some (.inr a0), some (.inl a1), some (.inl s3_3), some (.inl s3_3)]) dX0_busiest_34 (by decide) rfl ?_
          refine G_iinc F (v := (s3_3 + (1 : Int32))) (L2 := [some (.inr a0), some (.inl a1), some (.inl s3_3), some (.inl (s3_3 + (1 : Int32)))]) dX0_busiest_35 (by decide) rfl rfl rfl ?_
          refine G_goto F (tgt := 14) dX0_busiest_38 (by decide) ?_
          cases h
          exact G_sub F (L2 := [some (.inr a0), some (.inl a1), some (.inl s3_3), some (.inl (s3_3 + (1 : Int32)))]) ⟨rfl, ⟨rfl, ⟨rfl, ⟨rfl, trivial⟩⟩⟩⟩ (hP3 _ rfl)
    have hI := iter_ok (fun (s : (Int32 × Int32)) => match s with | (s2_3, s3_3) => G X cx 4 (Qm X cx (some (.inl rv)) m nx 0 0) (0) (0) m (nx) [some (.inr a0), some (.inl a1), some (.inl s2_3), some (.inl s3_3)] [] 14) (fun q => q = r3) KB3 _ _ _ hr3 rfl
    exact G_sub F (L2 := [some (.inr a0), some (.inl a1), some (.inl (0 : Int32)), some (.inl (1 : Int32))]) ⟨rfl, ⟨rfl, ⟨rfl, ⟨rfl, trivial⟩⟩⟩⟩ hI
  · have h := itt c2 h
    refine G_iconst F (v := (-1 : Int32)) dX0_busiest_8 (by decide) ?_
    cases h
    exact G_iret F rfl (Nat.le_refl _) (Nat.le_refl _) rfl dX0_busiest_9

theorem metX0_onTheWay (X : Gx) {m : Hp} {nx : Nat} {a0 : Option Nat} {a1 : Int32} {rv : Int32} (h : fX0_onTheWay m a0 a1 = some rv) : Con X (2) yX0_onTheWay cX0_onTheWay 4 ((Option.some FieldType.int)) [.inr a0, .inl a1] m nx (some (.inl rv)) m 0 0 := by
  refine Con.of (own := RX0) (nm := "onTheWay") (L := [some (.inr a0), some (.inl a1), none, none]) (by decide +kernel) rfl rfl (Nat.le_of_ble_eq_true rfl) (ent_of 2 rfl) ?_
  intro cx F
  refine G_iload_n F dX0_onTheWay_0 rfl ?_
  refine G_sipush F (v := (1440 : Int32)) dX0_onTheWay_1 (by decide) ?_
  obtain ⟨v1, e_v1, h⟩ := bnd h
  refine G_callSv F (As := [.inl a1, .inl (1440 : Int32)]) (st := []) (metX0_in X e_v1) (lw_S q409 q410 q102 q411) hdfX0_in ⟨by omega, by decide⟩ rfl (Nat.le_of_ble_eq_true rfl) ⟨by omega, by omega⟩ dX0_onTheWay_4 ?_
  refine G_if_ne F (tgt := 12) dX0_onTheWay_7 (by decide) (fun c2 => ?_) (fun c2 => ?_)
  · have h := itf c2 h
    refine G_iconst F (v := (0 : Int32)) dX0_onTheWay_12 (by decide) ?_
    refine G_istore_n F (L2 := [some (.inr a0), some (.inl a1), some (.inl (0 : Int32)), none]) dX0_onTheWay_13 (by decide) rfl ?_
    refine G_iconst F (v := (0 : Int32)) dX0_onTheWay_14 (by decide) ?_
    refine G_istore_n F (L2 := [some (.inr a0), some (.inl a1), some (.inl (0 : Int32)), some (.inl (0 : Int32))]) dX0_onTheWay_15 (by decide) rfl ?_
    obtain ⟨r3, hr3, h⟩ := bnd h
    have KE3 : ∀ (v19 : Int32), v19 = r3 → G X cx 4 (Qm X cx (some (.inl rv)) m nx 0 0) (0) (0) m (nx) [none, none, some (.inl v19), none] [] 77 := by
      intro v19 hq
      subst hq
      try dsimp only at h
      refine G_iload_n F dX0_onTheWay_77 rfl ?_
      cases h
      exact G_iret F rfl (Nat.le_refl _) (Nat.le_refl _) rfl dX0_onTheWay_78
    have KB3 : ∀ s o3, fX0_onTheWay_L16 m a0 a1 s = some o3 → (∀ s', o3 = Sum.inl s' → (fun (s : (Int32 × Int32)) => match s with | (s2_3, s3_3) => G X cx 4 (Qm X cx (some (.inl rv)) m nx 0 0) (0) (0) m (nx) [some (.inr a0), some (.inl a1), some (.inl s2_3), some (.inl s3_3)] [] 16) s') → (∀ q, o3 = Sum.inr q → q = r3) → (fun (s : (Int32 × Int32)) => match s with | (s2_3, s3_3) => G X cx 4 (Qm X cx (some (.inl rv)) m nx 0 0) (0) (0) m (nx) [some (.inr a0), some (.inl a1), some (.inl s2_3), some (.inl s3_3)] [] 16) s := by
      intro s o3 h hP3 hE3
      obtain ⟨s2_3, s3_3⟩ := s
      try dsimp only at hP3 hE3 ⊢
      refine G_iload_n F dX0_onTheWay_16 rfl ?_
      refine G_aload_n F dX0_onTheWay_17 rfl ?_
      obtain ⟨v4, e_v4, h⟩ := bnd h
      refine G_getI F okX0 (f := 3) (by decide) q335 rfl dX0_onTheWay_18 e_v4 ?_
      refine G_icmp_ge F (tgt := 77) dX0_onTheWay_21 (by decide) (fun c5 => ?_) (fun c5 => ?_)
      · have h := itt c5 h
        cases h
        exact G_sub F (L2 := [none, none, some (.inl s2_3), none]) ⟨rfl, trivial⟩ (KE3 _ (hE3 _ rfl))
      · have h := itf c5 h
        refine G_iload_n F dX0_onTheWay_24 rfl ?_
        refine G_aload_n F dX0_onTheWay_25 rfl ?_
        obtain ⟨v6, e_v6, h⟩ := bnd h
        refine G_getR F okX0 (f := 0) (by decide) q328 rfl dX0_onTheWay_26 e_v6 ?_
        refine G_iload_n F dX0_onTheWay_29 rfl ?_
        obtain ⟨v7, e_v7, h⟩ := bnd h
        refine G_aald F (t := 5) (by decide) dX0_onTheWay_30 e_v7 ?_
        obtain ⟨v8, e_v8, h⟩ := bnd h
        refine G_getIN F okX6 (f := 4) (by decide) q313 rfl dX0_onTheWay_31 e_v8 ?_
        refine G_if_eq F (tgt := 68) dX0_onTheWay_34 (by decide) (fun c9 => ?_) (fun c9 => ?_)
        · have h := itt c9 h
          refine G_iconst F (v := (0 : Int32)) dX0_onTheWay_68 (by decide) ?_
          refine G_iadd F dX0_onTheWay_69 ?_
          refine G_istore_n F (L2 := [some (.inr a0), some (.inl a1), some (.inl (s2_3 + (0 : Int32))), some (.inl s3_3)]) dX0_onTheWay_70 (by decide) rfl ?_
          refine G_iinc F (v := (s3_3 + (1 : Int32))) (L2 := [some (.inr a0), some (.inl a1), some (.inl (s2_3 + (0 : Int32))), some (.inl (s3_3 + (1 : Int32)))]) dX0_onTheWay_71 (by decide) rfl rfl rfl ?_
          refine G_goto F (tgt := 16) dX0_onTheWay_74 (by decide) ?_
          cases h
          exact G_sub F (L2 := [some (.inr a0), some (.inl a1), some (.inl (s2_3 + (0 : Int32))), some (.inl (s3_3 + (1 : Int32)))]) ⟨rfl, ⟨rfl, ⟨rfl, ⟨rfl, trivial⟩⟩⟩⟩ (hP3 _ rfl)
        · have h := itf c9 h
          refine G_iload_n F dX0_onTheWay_37 rfl ?_
          refine G_aload_n F dX0_onTheWay_38 rfl ?_
          obtain ⟨v10, e_v10, h⟩ := bnd h
          refine G_getR F okX0 (f := 0) (by decide) q328 rfl dX0_onTheWay_39 e_v10 ?_
          refine G_iload_n F dX0_onTheWay_42 rfl ?_
          obtain ⟨v11, e_v11, h⟩ := bnd h
          refine G_aald F (t := 5) (by decide) dX0_onTheWay_43 e_v11 ?_
          obtain ⟨v12, e_v12, h⟩ := bnd h
          refine G_getRN F okX6 (f := 1) (by decide) q301 rfl dX0_onTheWay_44 e_v12 ?_
          refine G_iconst F (v := (0 : Int32)) dX0_onTheWay_47 (by decide) ?_
          obtain ⟨v13, e_v13, h⟩ := bnd h
          refine G_iald F dX0_onTheWay_48 e_v13 ?_
          refine G_aload_n F dX0_onTheWay_49 rfl ?_
          obtain ⟨v14, e_v14, h⟩ := bnd h
          refine G_getR F okX0 (f := 0) (by decide) q328 rfl dX0_onTheWay_50 e_v14 ?_
          refine G_iload_n F dX0_onTheWay_53 rfl ?_
          obtain ⟨v15, e_v15, h⟩ := bnd h
          refine G_aald F (t := 5) (by decide) dX0_onTheWay_54 e_v15 ?_
          obtain ⟨v16, e_v16, h⟩ := bnd h
          obtain ⟨hc_v16, e_v16⟩ := hp_on_of e_v16
          refine G_callVv F (As := []) (st := [.inl v13, .inl a1, .inl s2_3]) (metX6_ends X e_v16) hc_v16 rfl rfl (lw_V q1045 q827 q828 q108 q829) hdfX6_ends ⟨by omega, by decide⟩ rfl (Nat.le_of_ble_eq_true rfl) ⟨by omega, by omega⟩ dX0_onTheWay_55 ?_
          obtain ⟨v17, e_v17, h⟩ := bnd h
          refine G_callSv F (As := [.inl a1, .inl v13, .inl v16]) (st := [.inl s2_3]) (metX0_within X e_v17) (lw_S q422 q423 q102 q424) hdfX0_within ⟨by omega, by decide⟩ rfl (Nat.le_of_ble_eq_true rfl) ⟨by omega, by omega⟩ dX0_onTheWay_58 ?_
          refine G_if_eq F (tgt := 68) dX0_onTheWay_61 (by decide) (fun c18 => ?_) (fun c18 => ?_)
          · have h := itt c18 h
            refine G_iconst F (v := (0 : Int32)) dX0_onTheWay_68 (by decide) ?_
            refine G_iadd F dX0_onTheWay_69 ?_
            refine G_istore_n F (L2 := [some (.inr a0), some (.inl a1), some (.inl (s2_3 + (0 : Int32))), some (.inl s3_3)]) dX0_onTheWay_70 (by decide) rfl ?_
            refine G_iinc F (v := (s3_3 + (1 : Int32))) (L2 := [some (.inr a0), some (.inl a1), some (.inl (s2_3 + (0 : Int32))), some (.inl (s3_3 + (1 : Int32)))]) dX0_onTheWay_71 (by decide) rfl rfl rfl ?_
            refine G_goto F (tgt := 16) dX0_onTheWay_74 (by decide) ?_
            cases h
            exact G_sub F (L2 := [some (.inr a0), some (.inl a1), some (.inl (s2_3 + (0 : Int32))), some (.inl (s3_3 + (1 : Int32)))]) ⟨rfl, ⟨rfl, ⟨rfl, ⟨rfl, trivial⟩⟩⟩⟩ (hP3 _ rfl)
          · have h := itf c18 h
            refine G_iconst F (v := (1 : Int32)) dX0_onTheWay_64 (by decide) ?_
            refine G_goto F (tgt := 69) dX0_onTheWay_65 (by decide) ?_
            refine G_iadd F dX0_onTheWay_69 ?_
            refine G_istore_n F (L2 := [some (.inr a0), some (.inl a1), some (.inl (s2_3 + (1 : Int32))), some (.inl s3_3)]) dX0_onTheWay_70 (by decide) rfl ?_
            refine G_iinc F (v := (s3_3 + (1 : Int32))) (L2 := [some (.inr a0), some (.inl a1), some (.inl (s2_3 + (1 : Int32))), some (.inl (s3_3 + (1 : Int32)))]) dX0_onTheWay_71 (by decide) rfl rfl rfl ?_
            refine G_goto F (tgt := 16) dX0_onTheWay_74 (by decide) ?_
            cases h
            exact G_sub F (L2 := [some (.inr a0), some (.inl a1), some (.inl (s2_3 + (1 : Int32))), some (.inl (s3_3 + (1 : Int32)))]) ⟨rfl, ⟨rfl, ⟨rfl, ⟨rfl, trivial⟩⟩⟩⟩ (hP3 _ rfl)
    have hI := iter_ok (fun (s : (Int32 × Int32)) => match s with | (s2_3, s3_3) => G X cx 4 (Qm X cx (some (.inl rv)) m nx 0 0) (0) (0) m (nx) [some (.inr a0), some (.inl a1), some (.inl s2_3), some (.inl s3_3)] [] 16) (fun q => q = r3) KB3 _ _ _ hr3 rfl
    exact G_sub F (L2 := [some (.inr a0), some (.inl a1), some (.inl (0 : Int32)), some (.inl (0 : Int32))]) ⟨rfl, ⟨rfl, ⟨rfl, ⟨rfl, trivial⟩⟩⟩⟩ hI
  · have h := itt c2 h
    refine G_iconst F (v := (-1 : Int32)) dX0_onTheWay_10 (by decide) ?_
    cases h
    exact G_iret F rfl (Nat.le_refl _) (Nat.le_refl _) rfl dX0_onTheWay_11

theorem metX0_leavesAt (X : Gx) {m : Hp} {nx : Nat} {a0 : Option Nat} {a1 : Int32} {a2 : Int32} {rv : Int32} (h : fX0_leavesAt m a0 a1 a2 = some rv) : Con X (3) yX0_leavesAt cX0_leavesAt 5 ((Option.some FieldType.int)) [.inr a0, .inl a1, .inl a2] m nx (some (.inl rv)) m 0 0 := by
  refine Con.of (own := RX0) (nm := "leavesAt") (L := [some (.inr a0), some (.inl a1), some (.inl a2), none, none]) (by decide +kernel) rfl rfl (Nat.le_of_ble_eq_true rfl) (ent_of 2 rfl) ?_
  intro cx F
  refine G_iconst F (v := (0 : Int32)) dX0_leavesAt_0 (by decide) ?_
  refine G_istore_n F (L2 := [some (.inr a0), some (.inl a1), some (.inl a2), some (.inl (0 : Int32)), none]) dX0_leavesAt_1 (by decide) rfl ?_
  refine G_iconst F (v := (0 : Int32)) dX0_leavesAt_2 (by decide) ?_
  refine G_istore F (L2 := [some (.inr a0), some (.inl a1), some (.inl a2), some (.inl (0 : Int32)), some (.inl (0 : Int32))]) dX0_leavesAt_3 (by decide) rfl ?_
  obtain ⟨r1, hr1, h⟩ := bnd h
  have KE1 : ∀ (v12 : Int32), v12 = r1 → G X cx 5 (Qm X cx (some (.inl rv)) m nx 0 0) (0) (0) m (nx) [none, none, none, some (.inl v12), none] [] 60 := by
    intro v12 hq
    subst hq
    try dsimp only at h
    refine G_iload_n F dX0_leavesAt_60 rfl ?_
    cases h
    exact G_iret F rfl (Nat.le_refl _) (Nat.le_refl _) rfl dX0_leavesAt_61
  have KB1 : ∀ s o1, fX0_leavesAt_L5 m a0 a1 a2 s = some o1 → (∀ s', o1 = Sum.inl s' → (fun (s : (Int32 × Int32)) => match s with | (s3_1, s4_1) => G X cx 5 (Qm X cx (some (.inl rv)) m nx 0 0) (0) (0) m (nx) [some (.inr a0), some (.inl a1), some (.inl a2), some (.inl s3_1), some (.inl s4_1)] [] 5) s') → (∀ q, o1 = Sum.inr q → q = r1) → (fun (s : (Int32 × Int32)) => match s with | (s3_1, s4_1) => G X cx 5 (Qm X cx (some (.inl rv)) m nx 0 0) (0) (0) m (nx) [some (.inr a0), some (.inl a1), some (.inl a2), some (.inl s3_1), some (.inl s4_1)] [] 5) s := by
    intro s o1 h hP1 hE1
    obtain ⟨s3_1, s4_1⟩ := s
    try dsimp only at hP1 hE1 ⊢
    refine G_iload F dX0_leavesAt_5 rfl ?_
    refine G_aload_n F dX0_leavesAt_7 rfl ?_
    obtain ⟨v2, e_v2, h⟩ := bnd h
    refine G_getI F okX0 (f := 3) (by decide) q335 rfl dX0_leavesAt_8 e_v2 ?_
    refine G_icmp_ge F (tgt := 60) dX0_leavesAt_11 (by decide) (fun c3 => ?_) (fun c3 => ?_)
    · have h := itt c3 h
      cases h
      exact G_sub F (L2 := [none, none, none, some (.inl s3_1), none]) ⟨rfl, trivial⟩ (KE1 _ (hE1 _ rfl))
    · have h := itf c3 h
      refine G_iload_n F dX0_leavesAt_14 rfl ?_
      refine G_aload_n F dX0_leavesAt_15 rfl ?_
      obtain ⟨v4, e_v4, h⟩ := bnd h
      refine G_getR F okX0 (f := 0) (by decide) q328 rfl dX0_leavesAt_16 e_v4 ?_
      refine G_iload F dX0_leavesAt_19 rfl ?_
      obtain ⟨v5, e_v5, h⟩ := bnd h
      refine G_aald F (t := 5) (by decide) dX0_leavesAt_21 e_v5 ?_
      refine G_iload_n F dX0_leavesAt_22 rfl ?_
      obtain ⟨v6, e_v6, h⟩ := bnd h
      obtain ⟨hc_v6, e_v6⟩ := hp_on_of e_v6
      refine G_callVv F (As := [.inl a1]) (st := [.inl s3_1]) (metX6_leaves X e_v6) hc_v6 rfl rfl (lw_V q1067 q1068 q1069 q108 q1070) hdfX6_leaves ⟨by omega, by decide⟩ rfl (Nat.le_of_ble_eq_true rfl) ⟨by omega, by omega⟩ dX0_leavesAt_23 ?_
      refine G_if_eq F (tgt := 51) dX0_leavesAt_26 (by decide) (fun c7 => ?_) (fun c7 => ?_)
      · have h := itt c7 h
        refine G_iconst F (v := (0 : Int32)) dX0_leavesAt_51 (by decide) ?_
        refine G_iadd F dX0_leavesAt_52 ?_
        refine G_istore_n F (L2 := [some (.inr a0), some (.inl a1), some (.inl a2), some (.inl (s3_1 + (0 : Int32))), some (.inl s4_1)]) dX0_leavesAt_53 (by decide) rfl ?_
        refine G_iinc F (v := (s4_1 + (1 : Int32))) (L2 := [some (.inr a0), some (.inl a1), some (.inl a2), some (.inl (s3_1 + (0 : Int32))), some (.inl (s4_1 + (1 : Int32)))]) dX0_leavesAt_54 (by decide) rfl rfl rfl ?_
        refine G_goto F (tgt := 5) dX0_leavesAt_57 (by decide) ?_
        cases h
        exact G_sub F (L2 := [some (.inr a0), some (.inl a1), some (.inl a2), some (.inl (s3_1 + (0 : Int32))), some (.inl (s4_1 + (1 : Int32)))]) ⟨rfl, ⟨rfl, ⟨rfl, ⟨rfl, ⟨rfl, trivial⟩⟩⟩⟩⟩ (hP1 _ rfl)
      · have h := itf c7 h
        refine G_aload_n F dX0_leavesAt_29 rfl ?_
        obtain ⟨v8, e_v8, h⟩ := bnd h
        refine G_getR F okX0 (f := 0) (by decide) q328 rfl dX0_leavesAt_30 e_v8 ?_
        refine G_iload F dX0_leavesAt_33 rfl ?_
        obtain ⟨v9, e_v9, h⟩ := bnd h
        refine G_aald F (t := 5) (by decide) dX0_leavesAt_35 e_v9 ?_
        refine G_iload_n F dX0_leavesAt_36 rfl ?_
        obtain ⟨v10, e_v10, h⟩ := bnd h
        obtain ⟨hc_v10, e_v10⟩ := hp_on_of e_v10
        refine G_callVv F (As := [.inl a1]) (st := [.inl s3_1]) (metX6_minuteAt X e_v10) hc_v10 rfl rfl (lw_V q1072 q1073 q1074 q108 q1075) hdfX6_minuteAt ⟨by omega, by decide⟩ rfl (Nat.le_of_ble_eq_true rfl) ⟨by omega, by omega⟩ dX0_leavesAt_37 ?_
        refine G_bipush F (v := (60 : Int32)) dX0_leavesAt_40 (by decide) ?_
        refine G_irem F (by decide) dX0_leavesAt_42 ?_
        refine G_iload_n F dX0_leavesAt_43 rfl ?_
        refine G_icmp_ne F (tgt := 51) dX0_leavesAt_44 (by decide) (fun c11 => ?_) (fun c11 => ?_)
        · have h := itf c11 h
          refine G_iconst F (v := (0 : Int32)) dX0_leavesAt_51 (by decide) ?_
          refine G_iadd F dX0_leavesAt_52 ?_
          refine G_istore_n F (L2 := [some (.inr a0), some (.inl a1), some (.inl a2), some (.inl (s3_1 + (0 : Int32))), some (.inl s4_1)]) dX0_leavesAt_53 (by decide) rfl ?_
          refine G_iinc F (v := (s4_1 + (1 : Int32))) (L2 := [some (.inr a0), some (.inl a1), some (.inl a2), some (.inl (s3_1 + (0 : Int32))), some (.inl (s4_1 + (1 : Int32)))]) dX0_leavesAt_54 (by decide) rfl rfl rfl ?_
          refine G_goto F (tgt := 5) dX0_leavesAt_57 (by decide) ?_
          cases h
          exact G_sub F (L2 := [some (.inr a0), some (.inl a1), some (.inl a2), some (.inl (s3_1 + (0 : Int32))), some (.inl (s4_1 + (1 : Int32)))]) ⟨rfl, ⟨rfl, ⟨rfl, ⟨rfl, ⟨rfl, trivial⟩⟩⟩⟩⟩ (hP1 _ rfl)
        · have h := itt c11 h
          refine G_iconst F (v := (1 : Int32)) dX0_leavesAt_47 (by decide) ?_
          refine G_goto F (tgt := 52) dX0_leavesAt_48 (by decide) ?_
          refine G_iadd F dX0_leavesAt_52 ?_
          refine G_istore_n F (L2 := [some (.inr a0), some (.inl a1), some (.inl a2), some (.inl (s3_1 + (1 : Int32))), some (.inl s4_1)]) dX0_leavesAt_53 (by decide) rfl ?_
          refine G_iinc F (v := (s4_1 + (1 : Int32))) (L2 := [some (.inr a0), some (.inl a1), some (.inl a2), some (.inl (s3_1 + (1 : Int32))), some (.inl (s4_1 + (1 : Int32)))]) dX0_leavesAt_54 (by decide) rfl rfl rfl ?_
          refine G_goto F (tgt := 5) dX0_leavesAt_57 (by decide) ?_
          cases h
          exact G_sub F (L2 := [some (.inr a0), some (.inl a1), some (.inl a2), some (.inl (s3_1 + (1 : Int32))), some (.inl (s4_1 + (1 : Int32)))]) ⟨rfl, ⟨rfl, ⟨rfl, ⟨rfl, ⟨rfl, trivial⟩⟩⟩⟩⟩ (hP1 _ rfl)
  have hI := iter_ok (fun (s : (Int32 × Int32)) => match s with | (s3_1, s4_1) => G X cx 5 (Qm X cx (some (.inl rv)) m nx 0 0) (0) (0) m (nx) [some (.inr a0), some (.inl a1), some (.inl a2), some (.inl s3_1), some (.inl s4_1)] [] 5) (fun q => q = r1) KB1 _ _ _ hr1 rfl
  exact G_sub F (L2 := [some (.inr a0), some (.inl a1), some (.inl a2), some (.inl (0 : Int32)), some (.inl (0 : Int32))]) ⟨rfl, ⟨rfl, ⟨rfl, ⟨rfl, ⟨rfl, trivial⟩⟩⟩⟩⟩ hI

theorem metX0_regular (X : Gx) {m : Hp} {nx : Nat} {a0 : Option Nat} {a1 : Int32} {a2 : Int32} {rv : Int32} (h : fX0_regular m a0 a1 a2 = some rv) : Con X (4) yX0_regular cX0_regular 6 ((Option.some FieldType.int)) [.inr a0, .inl a1, .inl a2] m nx (some (.inl rv)) m 0 0 := by
  refine Con.of (own := RX0) (nm := "regular") (L := [some (.inr a0), some (.inl a1), some (.inl a2), none, none, none]) (by decide +kernel) rfl rfl (Nat.le_of_ble_eq_true rfl) (ent_of 3 rfl) ?_
  intro cx F
  refine G_iload_n F dX0_regular_0 rfl ?_
  obtain ⟨v1, e_v1, h⟩ := bnd h
  refine G_callSv F (As := [.inl a1]) (st := []) (metX0_isStation X e_v1) (lw_S q415 q416 q102 q417) hdfX0_isStation ⟨by omega, by decide⟩ rfl (Nat.le_of_ble_eq_true rfl) ⟨by omega, by omega⟩ dX0_regular_1 ?_
  refine G_if_eq F (tgt := 15) dX0_regular_4 (by decide) (fun c2 => ?_) (fun c2 => ?_)
  · have h := itt c2 h
    refine G_iconst F (v := (-1 : Int32)) dX0_regular_15 (by decide) ?_
    cases h
    exact G_iret F rfl (Nat.le_refl _) (Nat.le_refl _) rfl dX0_regular_16
  · have h := itf c2 h
    refine G_iload_n F dX0_regular_7 rfl ?_
    refine G_iconst F (v := (3 : Int32)) dX0_regular_8 (by decide) ?_
    obtain ⟨v3, e_v3, h⟩ := bnd h
    refine G_callSv F (As := [.inl a2, .inl (3 : Int32)]) (st := []) (metX0_in X e_v3) (lw_S q409 q410 q102 q411) hdfX0_in ⟨by omega, by decide⟩ rfl (Nat.le_of_ble_eq_true rfl) ⟨by omega, by omega⟩ dX0_regular_9 ?_
    refine G_if_ne F (tgt := 17) dX0_regular_12 (by decide) (fun c4 => ?_) (fun c4 => ?_)
    · have h := itf c4 h
      refine G_iconst F (v := (0 : Int32)) dX0_regular_17 (by decide) ?_
      refine G_istore_n F (L2 := [some (.inr a0), some (.inl a1), some (.inl a2), some (.inl (0 : Int32)), none, none]) dX0_regular_18 (by decide) rfl ?_
      refine G_iconst F (v := (0 : Int32)) dX0_regular_19 (by decide) ?_
      refine G_istore F (L2 := [some (.inr a0), some (.inl a1), some (.inl a2), some (.inl (0 : Int32)), some (.inl (0 : Int32)), none]) dX0_regular_20 (by decide) rfl ?_
      refine G_iconst F (v := (0 : Int32)) dX0_regular_22 (by decide) ?_
      refine G_istore F (L2 := [some (.inr a0), some (.inl a1), some (.inl a2), some (.inl (0 : Int32)), some (.inl (0 : Int32)), some (.inl (0 : Int32))]) dX0_regular_23 (by decide) rfl ?_
      obtain ⟨r5, hr5, h⟩ := bnd h
      have KE5 : ∀ (v14 : Int32) (v15 : Int32), (v14, v15) = r5 → G X cx 6 (Qm X cx (some (.inl rv)) m nx 0 0) (0) (0) m (nx) [some (.inr a0), some (.inl a1), some (.inl a2), some (.inl v14), some (.inl v15), none] [] 82 := by
        intro v14 v15 hq
        subst hq
        try dsimp only at h
        refine G_iload_n F dX0_regular_82 rfl ?_
        refine G_if_ne F (tgt := 90) dX0_regular_83 (by decide) (fun c16 => ?_) (fun c16 => ?_)
        · have h := itf c16 h
          refine G_iload_n F dX0_regular_90 rfl ?_
          refine G_iconst F (v := (2 : Int32)) dX0_regular_91 (by decide) ?_
          refine G_icmp_ne F (tgt := 105) dX0_regular_92 (by decide) (fun c17 => ?_) (fun c17 => ?_)
          · have h := itf c17 h
            refine G_iload_n F dX0_regular_105 rfl ?_
            refine G_if_ne F (tgt := 114) dX0_regular_106 (by decide) (fun c18 => ?_) (fun c18 => ?_)
            · have h := itf c18 h
              refine G_iload F dX0_regular_114 rfl ?_
              cases h
              exact G_iret F rfl (Nat.le_refl _) (Nat.le_refl _) rfl dX0_regular_116
            · have h := itt c18 h
              refine G_bipush F (v := (-2 : Int32)) dX0_regular_109 (by decide) ?_
              refine G_goto F (tgt := 116) dX0_regular_111 (by decide) ?_
              cases h
              exact G_iret F rfl (Nat.le_refl _) (Nat.le_refl _) rfl dX0_regular_116
          · have h := itt c17 h
            refine G_aload_n F dX0_regular_95 rfl ?_
            refine G_iload_n F dX0_regular_96 rfl ?_
            refine G_iload F dX0_regular_97 rfl ?_
            obtain ⟨v19, e_v19, h⟩ := bnd h
            obtain ⟨hc_v19, e_v19⟩ := hp_on_of e_v19
            refine G_callVv F (As := [.inl a1, .inl v15]) (st := []) (metX0_leavesAt X e_v19) hc_v19 rfl rfl (lw_V q1173 q1175 qs40 q102 q1176) hdfX0_leavesAt ⟨by omega, by decide⟩ rfl (Nat.le_of_ble_eq_true rfl) ⟨by omega, by omega⟩ dX0_regular_99 ?_
            refine G_goto F (tgt := 116) dX0_regular_102 (by decide) ?_
            cases h
            exact G_iret F rfl (Nat.le_refl _) (Nat.le_refl _) rfl dX0_regular_116
        · have h := itt c16 h
          refine G_iload_n F dX0_regular_86 rfl ?_
          refine G_goto F (tgt := 116) dX0_regular_87 (by decide) ?_
          cases h
          exact G_iret F rfl (Nat.le_refl _) (Nat.le_refl _) rfl dX0_regular_116
      have KB5 : ∀ s o5, fX0_regular_L25 m a0 a1 a2 s = some o5 → (∀ s', o5 = Sum.inl s' → (fun (s : (Int32 × Int32 × Int32)) => match s with | (s3_5, s4_5, s5_5) => G X cx 6 (Qm X cx (some (.inl rv)) m nx 0 0) (0) (0) m (nx) [some (.inr a0), some (.inl a1), some (.inl a2), some (.inl s3_5), some (.inl s4_5), some (.inl s5_5)] [] 25) s') → (∀ q, o5 = Sum.inr q → q = r5) → (fun (s : (Int32 × Int32 × Int32)) => match s with | (s3_5, s4_5, s5_5) => G X cx 6 (Qm X cx (some (.inl rv)) m nx 0 0) (0) (0) m (nx) [some (.inr a0), some (.inl a1), some (.inl a2), some (.inl s3_5), some (.inl s4_5), some (.inl s5_5)] [] 25) s := by
        intro s o5 h hP5 hE5
        obtain ⟨s3_5, s4_5, s5_5⟩ := s
        try dsimp only at hP5 hE5 ⊢
        refine G_iload F dX0_regular_25 rfl ?_
        refine G_bipush F (v := (60 : Int32)) dX0_regular_27 (by decide) ?_
        refine G_icmp_ge F (tgt := 82) dX0_regular_29 (by decide) (fun c6 => ?_) (fun c6 => ?_)
        · have h := itt c6 h
          cases h
          exact G_sub F (L2 := [some (.inr a0), some (.inl a1), some (.inl a2), some (.inl s3_5), some (.inl s4_5), none]) ⟨rfl, ⟨rfl, ⟨rfl, ⟨rfl, ⟨rfl, trivial⟩⟩⟩⟩⟩ (KE5 _ _ (hE5 _ rfl))
        · have h := itf c6 h
          refine G_iload_n F dX0_regular_32 rfl ?_
          refine G_aload_n F dX0_regular_33 rfl ?_
          refine G_iload_n F dX0_regular_34 rfl ?_
          refine G_iload F dX0_regular_35 rfl ?_
          obtain ⟨v7, e_v7, h⟩ := bnd h
          obtain ⟨hc_v7, e_v7⟩ := hp_on_of e_v7
          refine G_callVv F (As := [.inl a1, .inl s5_5]) (st := [.inl s3_5]) (metX0_leavesAt X e_v7) hc_v7 rfl rfl (lw_V q1173 q1175 qs40 q102 q1176) hdfX0_leavesAt ⟨by omega, by decide⟩ rfl (Nat.le_of_ble_eq_true rfl) ⟨by omega, by omega⟩ dX0_regular_37 ?_
          obtain ⟨p9, hp9, h⟩ := bnd h
          have K9 : ∀ (v8 : Int32), v8 = p9 → G X cx 6 (Qm X cx (some (.inl rv)) m nx 0 0) (0) (0) m (nx) [some (.inr a0), some (.inl a1), some (.inl a2), none, some (.inl s4_5), some (.inl s5_5)] [.inl v8, .inl s3_5] 48 := by
            intro v8 hq
            subst hq
            try dsimp only at h
            refine G_iadd F dX0_regular_48 ?_
            refine G_istore_n F (L2 := [some (.inr a0), some (.inl a1), some (.inl a2), some (.inl (s3_5 + v8)), some (.inl s4_5), some (.inl s5_5)]) dX0_regular_49 (by decide) rfl ?_
            refine G_aload_n F dX0_regular_50 rfl ?_
            refine G_iload_n F dX0_regular_51 rfl ?_
            refine G_iload F dX0_regular_52 rfl ?_
            obtain ⟨v10, e_v10, h⟩ := bnd h
            obtain ⟨hc_v10, e_v10⟩ := hp_on_of e_v10
            refine G_callVv F (As := [.inl a1, .inl s5_5]) (st := []) (metX0_leavesAt X e_v10) hc_v10 rfl rfl (lw_V q1173 q1175 qs40 q102 q1176) hdfX0_leavesAt ⟨by omega, by decide⟩ rfl (Nat.le_of_ble_eq_true rfl) ⟨by omega, by omega⟩ dX0_regular_54 ?_
            refine G_aload_n F dX0_regular_57 rfl ?_
            refine G_iload_n F dX0_regular_58 rfl ?_
            refine G_iload F dX0_regular_59 rfl ?_
            obtain ⟨v11, e_v11, h⟩ := bnd h
            obtain ⟨hc_v11, e_v11⟩ := hp_on_of e_v11
            refine G_callVv F (As := [.inl a1, .inl s4_5]) (st := [.inl v10]) (metX0_leavesAt X e_v11) hc_v11 rfl rfl (lw_V q1173 q1175 qs40 q102 q1176) hdfX0_leavesAt ⟨by omega, by decide⟩ rfl (Nat.le_of_ble_eq_true rfl) ⟨by omega, by omega⟩ dX0_regular_61 ?_
            refine G_icmp_le F (tgt := 72) dX0_regular_64 (by decide) (fun c12 => ?_) (fun c12 => ?_)
            · have h := itt c12 h
              refine G_iload F dX0_regular_72 rfl ?_
              refine G_istore F (L2 := [some (.inr a0), some (.inl a1), some (.inl a2), some (.inl (s3_5 + v8)), some (.inl s4_5), some (.inl s5_5)]) dX0_regular_74 (by decide) rfl ?_
              refine G_iinc F (v := (s5_5 + (1 : Int32))) (L2 := [some (.inr a0), some (.inl a1), some (.inl a2), some (.inl (s3_5 + v8)), some (.inl s4_5), some (.inl (s5_5 + (1 : Int32)))]) dX0_regular_76 (by decide) rfl rfl rfl ?_
              refine G_goto F (tgt := 25) dX0_regular_79 (by decide) ?_
              cases h
              exact G_sub F (L2 := [some (.inr a0), some (.inl a1), some (.inl a2), some (.inl (s3_5 + v8)), some (.inl s4_5), some (.inl (s5_5 + (1 : Int32)))]) ⟨rfl, ⟨rfl, ⟨rfl, ⟨rfl, ⟨rfl, ⟨rfl, trivial⟩⟩⟩⟩⟩⟩ (hP5 _ rfl)
            · have h := itf c12 h
              refine G_iload F dX0_regular_67 rfl ?_
              refine G_goto F (tgt := 74) dX0_regular_69 (by decide) ?_
              refine G_istore F (L2 := [some (.inr a0), some (.inl a1), some (.inl a2), some (.inl (s3_5 + v8)), some (.inl s5_5), some (.inl s5_5)]) dX0_regular_74 (by decide) rfl ?_
              refine G_iinc F (v := (s5_5 + (1 : Int32))) (L2 := [some (.inr a0), some (.inl a1), some (.inl a2), some (.inl (s3_5 + v8)), some (.inl s5_5), some (.inl (s5_5 + (1 : Int32)))]) dX0_regular_76 (by decide) rfl rfl rfl ?_
              refine G_goto F (tgt := 25) dX0_regular_79 (by decide) ?_
              cases h
              exact G_sub F (L2 := [some (.inr a0), some (.inl a1), some (.inl a2), some (.inl (s3_5 + v8)), some (.inl s5_5), some (.inl (s5_5 + (1 : Int32)))]) ⟨rfl, ⟨rfl, ⟨rfl, ⟨rfl, ⟨rfl, ⟨rfl, trivial⟩⟩⟩⟩⟩⟩ (hP5 _ rfl)
          have h := hp9
          clear hp9
          refine G_if_le F (tgt := 47) dX0_regular_40 (by decide) (fun c13 => ?_) (fun c13 => ?_)
          · have h := itt c13 h
            refine G_iconst F (v := (0 : Int32)) dX0_regular_47 (by decide) ?_
            have hq_ := Option.some.inj h
            exact G_sub F (L2 := [some (.inr a0), some (.inl a1), some (.inl a2), none, some (.inl s4_5), some (.inl s5_5)]) ⟨rfl, ⟨rfl, ⟨rfl, ⟨rfl, ⟨rfl, trivial⟩⟩⟩⟩⟩ (K9 _ hq_)
          · have h := itf c13 h
            refine G_iconst F (v := (1 : Int32)) dX0_regular_43 (by decide) ?_
            refine G_goto F (tgt := 48) dX0_regular_44 (by decide) ?_
            have hq_ := Option.some.inj h
            exact G_sub F (L2 := [some (.inr a0), some (.inl a1), some (.inl a2), none, some (.inl s4_5), some (.inl s5_5)]) ⟨rfl, ⟨rfl, ⟨rfl, ⟨rfl, ⟨rfl, trivial⟩⟩⟩⟩⟩ (K9 _ hq_)
      have hI := iter_ok (fun (s : (Int32 × Int32 × Int32)) => match s with | (s3_5, s4_5, s5_5) => G X cx 6 (Qm X cx (some (.inl rv)) m nx 0 0) (0) (0) m (nx) [some (.inr a0), some (.inl a1), some (.inl a2), some (.inl s3_5), some (.inl s4_5), some (.inl s5_5)] [] 25) (fun q => q = r5) KB5 _ _ _ hr5 rfl
      exact G_sub F (L2 := [some (.inr a0), some (.inl a1), some (.inl a2), some (.inl (0 : Int32)), some (.inl (0 : Int32)), some (.inl (0 : Int32))]) ⟨rfl, ⟨rfl, ⟨rfl, ⟨rfl, ⟨rfl, ⟨rfl, trivial⟩⟩⟩⟩⟩⟩ hI
    · have h := itt c4 h
      refine G_iconst F (v := (-1 : Int32)) dX0_regular_15 (by decide) ?_
      cases h
      exact G_iret F rfl (Nat.le_refl _) (Nat.le_refl _) rfl dX0_regular_16

theorem metX0_fares (X : Gx) {m : Hp} {nx : Nat} {a0 : Option Nat} {a1 : Int32} {a2 : Int32} {rv : Int32} {m_ : Hp} (h : fX0_fares m a0 a1 a2 = some (rv, m_)) : Con X (2) yX0_fares cX0_fares 5 ((Option.some FieldType.int)) [.inr a0, .inl a1, .inl a2] m nx (some (.inl rv)) m_ 0 0 := by
  refine Con.of (own := RX0) (nm := "fares") (L := [some (.inr a0), some (.inl a1), some (.inl a2), none, none]) (by decide +kernel) rfl rfl (Nat.le_of_ble_eq_true rfl) (ent_of 2 rfl) ?_
  intro cx F
  refine G_iload_n F dX0_fares_0 rfl ?_
  refine G_iconst F (v := (1 : Int32)) dX0_fares_1 (by decide) ?_
  refine G_bipush F (v := (8 : Int32)) dX0_fares_2 (by decide) ?_
  obtain ⟨v1, e_v1, h⟩ := bnd h
  refine G_callSv F (As := [.inl a1, .inl (1 : Int32), .inl (8 : Int32)]) (st := []) (metX0_within X e_v1) (lw_S q422 q423 q102 q424) hdfX0_within ⟨by omega, by decide⟩ rfl (Nat.le_of_ble_eq_true rfl) ⟨by omega, by omega⟩ dX0_fares_4 ?_
  refine G_if_eq F (tgt := 30) dX0_fares_7 (by decide) (fun c2 => ?_) (fun c2 => ?_)
  · have h := itt c2 h
    refine G_iconst F (v := (-1 : Int32)) dX0_fares_30 (by decide) ?_
    cases h
    exact G_iret F rfl (Nat.le_refl _) (Nat.le_refl _) rfl dX0_fares_31
  · have h := itf c2 h
    refine G_iload_n F dX0_fares_10 rfl ?_
    refine G_ldcw F q1181 dX0_fares_11 ?_
    obtain ⟨v3, e_v3, h⟩ := bnd h
    refine G_callSv F (As := [.inl a2, .inl (1073741824 : Int32)]) (st := []) (metX0_in X e_v3) (lw_S q409 q410 q102 q411) hdfX0_in ⟨by omega, by decide⟩ rfl (Nat.le_of_ble_eq_true rfl) ⟨by omega, by omega⟩ dX0_fares_14 ?_
    refine G_if_eq F (tgt := 30) dX0_fares_17 (by decide) (fun c4 => ?_) (fun c4 => ?_)
    · have h := itt c4 h
      refine G_iconst F (v := (-1 : Int32)) dX0_fares_30 (by decide) ?_
      cases h
      exact G_iret F rfl (Nat.le_refl _) (Nat.le_refl _) rfl dX0_fares_31
    · have h := itf c4 h
      refine G_iconst F (v := (2 : Int32)) dX0_fares_20 (by decide) ?_
      refine G_iload_n F dX0_fares_21 rfl ?_
      refine G_imul F dX0_fares_22 ?_
      refine G_aload_n F dX0_fares_23 rfl ?_
      obtain ⟨v5, e_v5, h⟩ := bnd h
      refine G_getI F okX0 (f := 12) (by decide) q350 rfl dX0_fares_24 e_v5 ?_
      refine G_icmp_le F (tgt := 32) dX0_fares_27 (by decide) (fun c6 => ?_) (fun c6 => ?_)
      · have h := itt c6 h
        refine G_aload_n F dX0_fares_32 rfl ?_
        refine G_iconst F (v := (0 : Int32)) dX0_fares_33 (by decide) ?_
        obtain ⟨m7, e_m7, h⟩ := bnd h
        refine G_putV F okX0 (f := 12) (by decide) q350 rfl rfl dX0_fares_34 (vfit_int _) e_m7 ?_
        refine G_iconst F (v := (0 : Int32)) dX0_fares_37 (by decide) ?_
        refine G_istore_n F (L2 := [some (.inr a0), some (.inl a1), some (.inl a2), some (.inl (0 : Int32)), none]) dX0_fares_38 (by decide) rfl ?_
        obtain ⟨r8, hr8, h⟩ := bnd h
        have KE8 : ∀ (_ : Unit), Sum.inl () = r8 → G X cx 5 (Qm X cx (some (.inl rv)) m_ nx 0 0) (0) (0) m7 (nx) [some (.inr a0), some (.inl a1), some (.inl a2), none, none] [] 83 := by
          intro _ hq
          subst hq
          try dsimp only at h
          refine G_bipush F (v := (30 : Int32)) dX0_fares_83 (by decide) ?_
          refine G_istore_n F (L2 := [some (.inr a0), some (.inl a1), some (.inl a2), some (.inl (30 : Int32)), none]) dX0_fares_85 (by decide) rfl ?_
          obtain ⟨r17, hr17, h⟩ := bnd h
          have KE17 : ∀ (m44 : Hp), m44 = r17 → G X cx 5 (Qm X cx (some (.inl rv)) m_ nx 0 0) (0) (0) m44 (nx) [some (.inr a0), none, none, none, none] [] 214 := by
            intro m44 hq
            subst hq
            try dsimp only at h
            refine G_aload_n F dX0_fares_214 rfl ?_
            obtain ⟨v45, e_v45, h⟩ := bnd h
            refine G_getR F okX0 (f := 21) (by decide) q359 rfl dX0_fares_215 e_v45 ?_
            refine G_iconst F (v := (0 : Int32)) dX0_fares_218 (by decide) ?_
            obtain ⟨v46, e_v46, h⟩ := bnd h
            refine G_iald F dX0_fares_219 e_v46 ?_
            cases h
            exact G_iret F rfl (Nat.le_refl _) (Nat.le_refl _) rfl dX0_fares_220
          have KB17 : ∀ s o17, fX0_fares_L86 a0 a1 a2 s = some o17 → (∀ s', o17 = Sum.inl s' → (fun (s : (Int32 × Hp)) => match s with | (s3_17, m17) => G X cx 5 (Qm X cx (some (.inl rv)) m_ nx 0 0) (0) (0) m17 (nx) [some (.inr a0), some (.inl a1), some (.inl a2), some (.inl s3_17), none] [] 86) s') → (∀ q, o17 = Sum.inr q → q = r17) → (fun (s : (Int32 × Hp)) => match s with | (s3_17, m17) => G X cx 5 (Qm X cx (some (.inl rv)) m_ nx 0 0) (0) (0) m17 (nx) [some (.inr a0), some (.inl a1), some (.inl a2), some (.inl s3_17), none] [] 86) s := by
            intro s o17 h hP17 hE17
            obtain ⟨s3_17, m17⟩ := s
            try dsimp only at hP17 hE17 ⊢
            refine G_iload_n F dX0_fares_86 rfl ?_
            refine G_if_lt F (tgt := 214) dX0_fares_87 (by decide) (fun c18 => ?_) (fun c18 => ?_)
            · have h := itt c18 h
              cases h
              exact G_sub F (L2 := [some (.inr a0), none, none, none, none]) ⟨rfl, trivial⟩ (KE17 _ (hE17 _ rfl))
            · have h := itf c18 h
              refine G_aload_n F dX0_fares_90 rfl ?_
              obtain ⟨v19, e_v19, h⟩ := bnd h
              refine G_getR F okX0 (f := 21) (by decide) q359 rfl dX0_fares_91 e_v19 ?_
              refine G_iload_n F dX0_fares_94 rfl ?_
              refine G_iload_n F dX0_fares_95 rfl ?_
              refine G_bipush F (v := (30 : Int32)) dX0_fares_96 (by decide) ?_
              obtain ⟨p21, hp21, h⟩ := bnd h
              have K21 : ∀ (v20 : Int32), v20 = p21 → G X cx 5 (Qm X cx (some (.inl rv)) m_ nx 0 0) (0) (0) m17 (nx) [some (.inr a0), some (.inl a1), some (.inl a2), some (.inl s3_17), none] [.inl v20, .inl s3_17, .inr v19] 126 := by
                intro v20 hq
                subst hq
                try dsimp only at h
                obtain ⟨m22, e_m22, h⟩ := bnd h
                refine G_iast F dX0_fares_126 e_m22 ?_
                refine G_iconst F (v := (0 : Int32)) dX0_fares_127 (by decide) ?_
                refine G_istore F (L2 := [some (.inr a0), some (.inl a1), some (.inl a2), some (.inl s3_17), some (.inl (0 : Int32))]) dX0_fares_128 (by decide) rfl ?_
                obtain ⟨r23, hr23, h⟩ := bnd h
                have KE23 : ∀ (m38 : Hp), m38 = r23 → G X cx 5 (Qm X cx (some (.inl rv)) m_ nx 0 0) (0) (0) m38 (nx) [some (.inr a0), some (.inl a1), some (.inl a2), some (.inl s3_17), none] [] 208 := by
                  intro m38 hq
                  subst hq
                  try dsimp only at h
                  refine G_iinc F (v := (s3_17 + (-1 : Int32))) (L2 := [some (.inr a0), some (.inl a1), some (.inl a2), some (.inl (s3_17 + (-1 : Int32))), none]) dX0_fares_208 (by decide) rfl rfl rfl ?_
                  refine G_goto F (tgt := 86) dX0_fares_211 (by decide) ?_
                  cases h
                  exact G_sub F (L2 := [some (.inr a0), some (.inl a1), some (.inl a2), some (.inl (s3_17 + (-1 : Int32))), none]) ⟨rfl, ⟨rfl, ⟨rfl, ⟨rfl, trivial⟩⟩⟩⟩ (hP17 _ rfl)
                have KB23 : ∀ s o23, fX0_fares_L130 a0 a1 a2 s3_17 s = some o23 → (∀ s', o23 = Sum.inl s' → (fun (s : (Int32 × Hp)) => match s with | (s4_23, m23) => G X cx 5 (Qm X cx (some (.inl rv)) m_ nx 0 0) (0) (0) m23 (nx) [some (.inr a0), some (.inl a1), some (.inl a2), some (.inl s3_17), some (.inl s4_23)] [] 130) s') → (∀ q, o23 = Sum.inr q → q = r23) → (fun (s : (Int32 × Hp)) => match s with | (s4_23, m23) => G X cx 5 (Qm X cx (some (.inl rv)) m_ nx 0 0) (0) (0) m23 (nx) [some (.inr a0), some (.inl a1), some (.inl a2), some (.inl s3_17), some (.inl s4_23)] [] 130) s := by
                  intro s o23 h hP23 hE23
                  obtain ⟨s4_23, m23⟩ := s
                  try dsimp only at hP23 hE23 ⊢
                  refine G_iload F dX0_fares_130 rfl ?_
                  refine G_iload_n F dX0_fares_132 rfl ?_
                  refine G_icmp_ge F (tgt := 208) dX0_fares_133 (by decide) (fun c24 => ?_) (fun c24 => ?_)
                  · have h := itt c24 h
                    cases h
                    exact G_sub F (L2 := [some (.inr a0), some (.inl a1), some (.inl a2), some (.inl s3_17), none]) ⟨rfl, ⟨rfl, ⟨rfl, ⟨rfl, trivial⟩⟩⟩⟩ (KE23 _ (hE23 _ rfl))
                  · have h := itf c24 h
                    refine G_iload_n F dX0_fares_136 rfl ?_
                    refine G_bipush F (v := (30 : Int32)) dX0_fares_137 (by decide) ?_
                    refine G_icmp_ge F (tgt := 208) dX0_fares_139 (by decide) (fun c25 => ?_) (fun c25 => ?_)
                    · have h := itt c25 h
                      cases h
                      exact G_sub F (L2 := [some (.inr a0), some (.inl a1), some (.inl a2), some (.inl s3_17), none]) ⟨rfl, ⟨rfl, ⟨rfl, ⟨rfl, trivial⟩⟩⟩⟩ (KE23 _ (hE23 _ rfl))
                    · have h := itf c25 h
                      refine G_iload_n F dX0_fares_142 rfl ?_
                      refine G_iload_n F dX0_fares_143 rfl ?_
                      obtain ⟨v26, e_v26, h⟩ := bnd h
                      refine G_callSv F (As := [.inl a2, .inl s3_17]) (st := []) (metX0_has X e_v26) (lw_S q1182 q1183 q102 q1184) hdfX0_has ⟨by omega, by decide⟩ rfl (Nat.le_of_ble_eq_true rfl) ⟨by omega, by omega⟩ dX0_fares_144 ?_
                      refine G_if_eq F (tgt := 208) dX0_fares_147 (by decide) (fun c27 => ?_) (fun c27 => ?_)
                      · have h := itt c27 h
                        cases h
                        exact G_sub F (L2 := [some (.inr a0), some (.inl a1), some (.inl a2), some (.inl s3_17), none]) ⟨rfl, ⟨rfl, ⟨rfl, ⟨rfl, trivial⟩⟩⟩⟩ (KE23 _ (hE23 _ rfl))
                      · have h := itf c27 h
                        refine G_aload_n F dX0_fares_150 rfl ?_
                        obtain ⟨v28, e_v28, h⟩ := bnd h
                        refine G_getR F okX0 (f := 21) (by decide) q359 rfl dX0_fares_151 e_v28 ?_
                        refine G_iload_n F dX0_fares_154 rfl ?_
                        refine G_aload_n F dX0_fares_155 rfl ?_
                        obtain ⟨v29, e_v29, h⟩ := bnd h
                        refine G_getR F okX0 (f := 21) (by decide) q359 rfl dX0_fares_156 e_v29 ?_
                        refine G_iload_n F dX0_fares_159 rfl ?_
                        obtain ⟨v30, e_v30, h⟩ := bnd h
                        refine G_iald F dX0_fares_160 e_v30 ?_
                        refine G_aload_n F dX0_fares_161 rfl ?_
                        obtain ⟨v31, e_v31, h⟩ := bnd h
                        refine G_getR F okX0 (f := 21) (by decide) q359 rfl dX0_fares_162 e_v31 ?_
                        refine G_bipush F (v := (30 : Int32)) dX0_fares_165 (by decide) ?_
                        refine G_iload_n F dX0_fares_167 rfl ?_
                        refine G_aload_n F dX0_fares_168 rfl ?_
                        obtain ⟨v32, e_v32, h⟩ := bnd h
                        refine G_getR F okX0 (f := 10) (by decide) q347 rfl dX0_fares_169 e_v32 ?_
                        refine G_iconst F (v := (2 : Int32)) dX0_fares_172 (by decide) ?_
                        refine G_iload F dX0_fares_173 rfl ?_
                        refine G_imul F dX0_fares_175 ?_
                        obtain ⟨v33, e_v33, h⟩ := bnd h
                        refine G_bald F dX0_fares_176 e_v33 ?_
                        refine G_iadd F dX0_fares_177 ?_
                        refine G_mmin F q990 q517 q113 q518 (by omega) (Nat.le_of_ble_eq_true rfl) ⟨by omega, by omega⟩ dX0_fares_178 ?_
                        obtain ⟨v34, e_v34, h⟩ := bnd h
                        refine G_iald F dX0_fares_181 e_v34 ?_
                        refine G_aload_n F dX0_fares_182 rfl ?_
                        obtain ⟨v35, e_v35, h⟩ := bnd h
                        refine G_getR F okX0 (f := 10) (by decide) q347 rfl dX0_fares_183 e_v35 ?_
                        refine G_iconst F (v := (2 : Int32)) dX0_fares_186 (by decide) ?_
                        refine G_iload F dX0_fares_187 rfl ?_
                        refine G_imul F dX0_fares_189 ?_
                        refine G_iconst F (v := (1 : Int32)) dX0_fares_190 (by decide) ?_
                        refine G_iadd F dX0_fares_191 ?_
                        obtain ⟨v36, e_v36, h⟩ := bnd h
                        refine G_bald F dX0_fares_192 e_v36 ?_
                        refine G_sipush F (v := (255 : Int32)) dX0_fares_193 (by decide) ?_
                        refine G_iand F dX0_fares_196 ?_
                        refine G_iadd F dX0_fares_197 ?_
                        refine G_mmin F q990 q517 q113 q518 (by omega) (Nat.le_of_ble_eq_true rfl) ⟨by omega, by omega⟩ dX0_fares_198 ?_
                        obtain ⟨m37, e_m37, h⟩ := bnd h
                        refine G_iast F dX0_fares_201 e_m37 ?_
                        refine G_iinc F (v := (s4_23 + (1 : Int32))) (L2 := [some (.inr a0), some (.inl a1), some (.inl a2), some (.inl s3_17), some (.inl (s4_23 + (1 : Int32)))]) dX0_fares_202 (by decide) rfl rfl rfl ?_
                        refine G_goto F (tgt := 130) dX0_fares_205 (by decide) ?_
                        cases h
                        exact G_sub F (L2 := [some (.inr a0), some (.inl a1), some (.inl a2), some (.inl s3_17), some (.inl (s4_23 + (1 : Int32)))]) ⟨rfl, ⟨rfl, ⟨rfl, ⟨rfl, ⟨rfl, trivial⟩⟩⟩⟩⟩ (hP23 _ rfl)
                have hI := iter_ok (fun (s : (Int32 × Hp)) => match s with | (s4_23, m23) => G X cx 5 (Qm X cx (some (.inl rv)) m_ nx 0 0) (0) (0) m23 (nx) [some (.inr a0), some (.inl a1), some (.inl a2), some (.inl s3_17), some (.inl s4_23)] [] 130) (fun q => q = r23) KB23 _ _ _ hr23 rfl
                exact G_sub F (L2 := [some (.inr a0), some (.inl a1), some (.inl a2), some (.inl s3_17), some (.inl (0 : Int32))]) ⟨rfl, ⟨rfl, ⟨rfl, ⟨rfl, ⟨rfl, trivial⟩⟩⟩⟩⟩ hI
              have h := hp21
              clear hp21
              refine G_icmp_ne F (tgt := 105) dX0_fares_98 (by decide) (fun c39 => ?_) (fun c39 => ?_)
              · have h := itf c39 h
                refine G_iload_n F dX0_fares_105 rfl ?_
                refine G_iload_n F dX0_fares_106 rfl ?_
                obtain ⟨v40, e_v40, h⟩ := bnd h
                refine G_callSv F (As := [.inl a2, .inl s3_17]) (st := [.inl s3_17, .inr v19]) (metX0_has X e_v40) (lw_S q1182 q1183 q102 q1184) hdfX0_has ⟨by omega, by decide⟩ rfl (Nat.le_of_ble_eq_true rfl) ⟨by omega, by omega⟩ dX0_fares_107 ?_
                refine G_if_eq F (tgt := 118) dX0_fares_110 (by decide) (fun c41 => ?_) (fun c41 => ?_)
                · have h := itt c41 h
                  refine G_aload_n F dX0_fares_118 rfl ?_
                  obtain ⟨v42, e_v42, h⟩ := bnd h
                  refine G_getR F okX0 (f := 21) (by decide) q359 rfl dX0_fares_119 e_v42 ?_
                  refine G_iload_n F dX0_fares_122 rfl ?_
                  refine G_iconst F (v := (1 : Int32)) dX0_fares_123 (by decide) ?_
                  refine G_iadd F dX0_fares_124 ?_
                  obtain ⟨v43, e_v43, h⟩ := bnd h
                  refine G_iald F dX0_fares_125 e_v43 ?_
                  have hq_ := Option.some.inj h
                  exact G_sub F (L2 := [some (.inr a0), some (.inl a1), some (.inl a2), some (.inl s3_17), none]) ⟨rfl, ⟨rfl, ⟨rfl, ⟨rfl, trivial⟩⟩⟩⟩ (K21 _ hq_)
                · have h := itf c41 h
                  refine G_ldc F q1058 dX0_fares_113 ?_
                  refine G_goto F (tgt := 126) dX0_fares_115 (by decide) ?_
                  have hq_ := Option.some.inj h
                  exact G_sub F (L2 := [some (.inr a0), some (.inl a1), some (.inl a2), some (.inl s3_17), none]) ⟨rfl, ⟨rfl, ⟨rfl, ⟨rfl, trivial⟩⟩⟩⟩ (K21 _ hq_)
              · have h := itt c39 h
                refine G_iconst F (v := (0 : Int32)) dX0_fares_101 (by decide) ?_
                refine G_goto F (tgt := 126) dX0_fares_102 (by decide) ?_
                have hq_ := Option.some.inj h
                exact G_sub F (L2 := [some (.inr a0), some (.inl a1), some (.inl a2), some (.inl s3_17), none]) ⟨rfl, ⟨rfl, ⟨rfl, ⟨rfl, trivial⟩⟩⟩⟩ (K21 _ hq_)
          have hI := iter_ok (fun (s : (Int32 × Hp)) => match s with | (s3_17, m17) => G X cx 5 (Qm X cx (some (.inl rv)) m_ nx 0 0) (0) (0) m17 (nx) [some (.inr a0), some (.inl a1), some (.inl a2), some (.inl s3_17), none] [] 86) (fun q => q = r17) KB17 _ _ _ hr17 rfl
          exact G_sub F (L2 := [some (.inr a0), some (.inl a1), some (.inl a2), some (.inl (30 : Int32)), none]) ⟨rfl, ⟨rfl, ⟨rfl, ⟨rfl, trivial⟩⟩⟩⟩ hI
        have KR8 : ∀ q, Sum.inr q = r8 → some q = some (rv, m_) := by
          intro q hq
          subst hq
          exact h
        have KB8 : ∀ s o8, fX0_fares_L39 m7 a0 a1 a2 s = some o8 → (∀ s', o8 = Sum.inl s' → (fun (s : Int32) => match s with | s3_8 => G X cx 5 (Qm X cx (some (.inl rv)) m_ nx 0 0) (0) (0) m7 (nx) [some (.inr a0), some (.inl a1), some (.inl a2), some (.inl s3_8), none] [] 39) s') → (∀ q, o8 = Sum.inr q → q = r8) → (fun (s : Int32) => match s with | s3_8 => G X cx 5 (Qm X cx (some (.inl rv)) m_ nx 0 0) (0) (0) m7 (nx) [some (.inr a0), some (.inl a1), some (.inl a2), some (.inl s3_8), none] [] 39) s := by
          intro s o8 h hP8 hE8
          obtain ⟨s3_8, hs_⟩ : ∃ x, x = s := ⟨_, rfl⟩
          subst hs_
          try dsimp only at hP8 hE8 ⊢
          refine G_iload_n F dX0_fares_39 rfl ?_
          refine G_iload_n F dX0_fares_40 rfl ?_
          refine G_icmp_ge F (tgt := 83) dX0_fares_41 (by decide) (fun c9 => ?_) (fun c9 => ?_)
          · have h := itt c9 h
            cases h
            exact G_sub F (L2 := [some (.inr a0), some (.inl a1), some (.inl a2), none, none]) ⟨rfl, ⟨rfl, ⟨rfl, trivial⟩⟩⟩ (KE8 () (hE8 _ rfl))
          · have h := itf c9 h
            refine G_aload_n F dX0_fares_44 rfl ?_
            obtain ⟨v10, e_v10, h⟩ := bnd h
            refine G_getR F okX0 (f := 10) (by decide) q347 rfl dX0_fares_45 e_v10 ?_
            refine G_iconst F (v := (2 : Int32)) dX0_fares_48 (by decide) ?_
            refine G_iload_n F dX0_fares_49 rfl ?_
            refine G_imul F dX0_fares_50 ?_
            obtain ⟨v11, e_v11, h⟩ := bnd h
            refine G_bald F dX0_fares_51 e_v11 ?_
            refine G_iconst F (v := (1 : Int32)) dX0_fares_52 (by decide) ?_
            refine G_bipush F (v := (30 : Int32)) dX0_fares_53 (by decide) ?_
            obtain ⟨v12, e_v12, h⟩ := bnd h
            refine G_callSv F (As := [.inl v11, .inl (1 : Int32), .inl (30 : Int32)]) (st := []) (metX0_within X e_v12) (lw_S q422 q423 q102 q424) hdfX0_within ⟨by omega, by decide⟩ rfl (Nat.le_of_ble_eq_true rfl) ⟨by omega, by omega⟩ dX0_fares_55 ?_
            refine G_if_eq F (tgt := 74) dX0_fares_58 (by decide) (fun c13 => ?_) (fun c13 => ?_)
            · have h := itt c13 h
              refine G_bipush F (v := (-2 : Int32)) dX0_fares_74 (by decide) ?_
              cases h
              have h := KR8 _ (hE8 _ rfl)
              cases h
              exact G_iret F rfl (Nat.le_refl _) (Nat.le_refl _) rfl dX0_fares_76
            · have h := itf c13 h
              refine G_aload_n F dX0_fares_61 rfl ?_
              obtain ⟨v14, e_v14, h⟩ := bnd h
              refine G_getR F okX0 (f := 10) (by decide) q347 rfl dX0_fares_62 e_v14 ?_
              refine G_iconst F (v := (2 : Int32)) dX0_fares_65 (by decide) ?_
              refine G_iload_n F dX0_fares_66 rfl ?_
              refine G_imul F dX0_fares_67 ?_
              refine G_iconst F (v := (1 : Int32)) dX0_fares_68 (by decide) ?_
              refine G_iadd F dX0_fares_69 ?_
              obtain ⟨v15, e_v15, h⟩ := bnd h
              refine G_bald F dX0_fares_70 e_v15 ?_
              refine G_if_ne F (tgt := 77) dX0_fares_71 (by decide) (fun c16 => ?_) (fun c16 => ?_)
              · have h := itf c16 h
                refine G_iinc F (v := (s3_8 + (1 : Int32))) (L2 := [some (.inr a0), some (.inl a1), some (.inl a2), some (.inl (s3_8 + (1 : Int32))), none]) dX0_fares_77 (by decide) rfl rfl rfl ?_
                refine G_goto F (tgt := 39) dX0_fares_80 (by decide) ?_
                cases h
                exact G_sub F (L2 := [some (.inr a0), some (.inl a1), some (.inl a2), some (.inl (s3_8 + (1 : Int32))), none]) ⟨rfl, ⟨rfl, ⟨rfl, ⟨rfl, trivial⟩⟩⟩⟩ (hP8 _ rfl)
              · have h := itt c16 h
                refine G_bipush F (v := (-2 : Int32)) dX0_fares_74 (by decide) ?_
                cases h
                have h := KR8 _ (hE8 _ rfl)
                cases h
                exact G_iret F rfl (Nat.le_refl _) (Nat.le_refl _) rfl dX0_fares_76
        have hI := iter_ok (fun (s : Int32) => match s with | s3_8 => G X cx 5 (Qm X cx (some (.inl rv)) m_ nx 0 0) (0) (0) m7 (nx) [some (.inr a0), some (.inl a1), some (.inl a2), some (.inl s3_8), none] [] 39) (fun q => q = r8) KB8 _ _ _ hr8 rfl
        exact G_sub F (L2 := [some (.inr a0), some (.inl a1), some (.inl a2), some (.inl (0 : Int32)), none]) ⟨rfl, ⟨rfl, ⟨rfl, ⟨rfl, trivial⟩⟩⟩⟩ hI
      · have h := itf c6 h
        refine G_iconst F (v := (-1 : Int32)) dX0_fares_30 (by decide) ?_
        cases h
        exact G_iret F rfl (Nat.le_refl _) (Nat.le_refl _) rfl dX0_fares_31

theorem metX0_seed (X : Gx) {m : Hp} {nx : Nat} {a0 : Option Nat} {a1 : Int32} {rv : Int32} {m_ : Hp} (h : fX0_seed m a0 a1 = some (rv, m_)) : Con X (2) yX0_seed cX0_seed 2 ((Option.some FieldType.boolean)) [.inr a0, .inl a1] m nx (some (.inl rv)) m_ 0 0 := by
  refine Con.of (own := RX0) (nm := "seed") (L := [some (.inr a0), some (.inl a1)]) (by decide +kernel) rfl rfl (Nat.le_of_ble_eq_true rfl) (ent_of 0 rfl) ?_
  intro cx F
  refine G_iload_n F dX0_seed_0 rfl ?_
  refine G_ldcw F q1189 dX0_seed_1 ?_
  obtain ⟨v1, e_v1, h⟩ := bnd h
  refine G_callSv F (As := [.inl a1, .inl (65536 : Int32)]) (st := []) (metX0_in X e_v1) (lw_S q409 q410 q102 q411) hdfX0_in ⟨by omega, by decide⟩ rfl (Nat.le_of_ble_eq_true rfl) ⟨by omega, by omega⟩ dX0_seed_4 ?_
  refine G_if_ne F (tgt := 12) dX0_seed_7 (by decide) (fun c2 => ?_) (fun c2 => ?_)
  · have h := itf c2 h
    refine G_aload_n F dX0_seed_12 rfl ?_
    obtain ⟨v3, e_v3, h⟩ := bnd h
    refine G_getR F okX0 (f := 7) (by decide) q342 rfl dX0_seed_13 e_v3 ?_
    refine G_iload_n F dX0_seed_16 rfl ?_
    obtain ⟨m4, e_m4, h⟩ := bnd h
    refine G_putVN F okX3 (f := 4) (by decide) q232 rfl rfl dX0_seed_17 (vfit_int _) e_m4 ?_
    refine G_iconst F (v := (1 : Int32)) dX0_seed_20 (by decide) ?_
    cases h
    exact G_zret F rfl (Or.inr rfl) (Nat.le_refl _) (Nat.le_refl _) rfl dX0_seed_21
  · have h := itt c2 h
    refine G_iconst F (v := (0 : Int32)) dX0_seed_10 (by decide) ?_
    cases h
    exact G_zret F rfl (Or.inl rfl) (Nat.le_refl _) (Nat.le_refl _) rfl dX0_seed_11

theorem metX0_keep (X : Gx) {m : Hp} {nx : Nat} {a0 : Option Nat} {rv : Int32} {m_ : Hp} (h : fX0_keep m a0 = some (rv, m_)) : Con X (3) yX0_keep cX0_keep 1 ((Option.some FieldType.int)) [.inr a0] m nx (some (.inl rv)) m_ 0 0 := by
  refine Con.of (own := RX0) (nm := "keep") (L := [some (.inr a0)]) (by decide +kernel) rfl rfl (Nat.le_of_ble_eq_true rfl) (ent_of 0 rfl) ?_
  intro cx F
  refine G_aload_n F dX0_keep_0 rfl ?_
  refine G_iconst F (v := (1 : Int32)) dX0_keep_1 (by decide) ?_
  obtain ⟨m1, e_m1, h⟩ := bnd h
  refine G_putV F okX0 (f := 13) (by decide) q351 rfl rfl dX0_keep_2 (hp_pZ_of e_m1).1 (hp_pZ_of e_m1).2 ?_
  refine G_aload_n F dX0_keep_5 rfl ?_
  obtain ⟨v2, e_v2, h⟩ := bnd h
  refine G_getR F okX0 (f := 9) (by decide) q344 rfl dX0_keep_6 e_v2 ?_
  refine G_aload_n F dX0_keep_9 rfl ?_
  obtain ⟨v3, e_v3, h⟩ := bnd h
  refine G_getR F okX0 (f := 7) (by decide) q342 rfl dX0_keep_10 e_v3 ?_
  obtain ⟨⟨v4, m5⟩, e_v4, h⟩ := bnd h
  obtain ⟨hc_v4, e_v4⟩ := hp_on_of e_v4
  refine G_callVv F (As := [.inr v3]) (st := []) (metX3_takes X e_v4) hc_v4 rfl rfl (lw_V q1020 q1021 q1022 q105 q1023) hdfX3_takes ⟨by omega, by decide⟩ rfl (Nat.le_of_ble_eq_true rfl) ⟨by omega, by omega⟩ dX0_keep_13 ?_
  refine G_pop F dX0_keep_16 ?_
  refine G_aload_n F dX0_keep_17 rfl ?_
  obtain ⟨v6, e_v6, h⟩ := bnd h
  refine G_getR F okX0 (f := 7) (by decide) q342 rfl dX0_keep_18 e_v6 ?_
  obtain ⟨v7, e_v7, h⟩ := bnd h
  refine G_getIN F okX3 (f := 3) (by decide) q230 rfl dX0_keep_21 e_v7 ?_
  cases h
  exact G_iret F rfl (Nat.le_refl _) (Nat.le_refl _) rfl dX0_keep_24

theorem metX3_isAgain (X : Gx) {m : Hp} {nx : Nat} {a0 : Option Nat} {a1 : Option Nat} {m_ : Hp} (h : fX3_isAgain m a0 a1 = some m_) : Con X (1) yX3_isAgain cX3_isAgain 3 ((none : Option FieldType)) [.inr a0, .inr a1] m nx none m_ 0 0 := by
  refine Con.of (own := RX3) (nm := "isAgain") (L := [some (.inr a0), some (.inr a1), none]) (by decide +kernel) rfl rfl (Nat.le_of_ble_eq_true rfl) (ent_of 1 rfl) ?_
  intro cx F
  refine G_iconst F (v := (0 : Int32)) dX3_isAgain_0 (by decide) ?_
  refine G_istore_n F (L2 := [some (.inr a0), some (.inr a1), some (.inl (0 : Int32))]) dX3_isAgain_1 (by decide) rfl ?_
  obtain ⟨r1, hr1, h⟩ := bnd h
  have KE1 : ∀ (m15 : Hp), m15 = r1 → G X cx 3 (Qm X cx none m_ nx 0 0) (0) (0) m15 (nx) [some (.inr a0), some (.inr a1), none] [] 50 := by
    intro m15 hq
    subst hq
    try dsimp only at h
    refine G_aload_n F dX3_isAgain_50 rfl ?_
    refine G_aload_n F dX3_isAgain_51 rfl ?_
    obtain ⟨v16, e_v16, h⟩ := bnd h
    refine G_getI F okX3 (f := 3) (by decide) q229 rfl dX3_isAgain_52 e_v16 ?_
    obtain ⟨m17, e_m17, h⟩ := bnd h
    refine G_putV F okX3 (f := 3) (by decide) q229 rfl rfl dX3_isAgain_55 (vfit_int _) e_m17 ?_
    refine G_aload_n F dX3_isAgain_58 rfl ?_
    refine G_aload_n F dX3_isAgain_59 rfl ?_
    obtain ⟨v18, e_v18, h⟩ := bnd h
    refine G_getI F okX3 (f := 4) (by decide) q231 rfl dX3_isAgain_60 e_v18 ?_
    obtain ⟨m19, e_m19, h⟩ := bnd h
    refine G_putV F okX3 (f := 4) (by decide) q231 rfl rfl dX3_isAgain_63 (vfit_int _) e_m19 ?_
    cases h
    exact G_vret F rfl (Nat.le_refl _) (Nat.le_refl _) rfl dX3_isAgain_66
  have KB1 : ∀ s o1, fX3_isAgain_L2 a0 a1 s = some o1 → (∀ s', o1 = Sum.inl s' → (fun (s : (Int32 × Hp)) => match s with | (s2_1, m1) => G X cx 3 (Qm X cx none m_ nx 0 0) (0) (0) m1 (nx) [some (.inr a0), some (.inr a1), some (.inl s2_1)] [] 2) s') → (∀ q, o1 = Sum.inr q → q = r1) → (fun (s : (Int32 × Hp)) => match s with | (s2_1, m1) => G X cx 3 (Qm X cx none m_ nx 0 0) (0) (0) m1 (nx) [some (.inr a0), some (.inr a1), some (.inl s2_1)] [] 2) s := by
    intro s o1 h hP1 hE1
    obtain ⟨s2_1, m1⟩ := s
    try dsimp only at hP1 hE1 ⊢
    refine G_iload_n F dX3_isAgain_2 rfl ?_
    refine G_bipush F (v := (12 : Int32)) dX3_isAgain_3 (by decide) ?_
    refine G_icmp_ge F (tgt := 50) dX3_isAgain_5 (by decide) (fun c2 => ?_) (fun c2 => ?_)
    · have h := itt c2 h
      cases h
      exact G_sub F (L2 := [some (.inr a0), some (.inr a1), none]) ⟨rfl, ⟨rfl, trivial⟩⟩ (KE1 _ (hE1 _ rfl))
    · have h := itf c2 h
      refine G_aload_n F dX3_isAgain_8 rfl ?_
      obtain ⟨v3, e_v3, h⟩ := bnd h
      refine G_getR F okX3 (f := 0) (by decide) q225 rfl dX3_isAgain_9 e_v3 ?_
      refine G_iload_n F dX3_isAgain_12 rfl ?_
      obtain ⟨v4, e_v4, h⟩ := bnd h
      refine G_aald F (t := 6) (by decide) dX3_isAgain_13 e_v4 ?_
      refine G_aload_n F dX3_isAgain_14 rfl ?_
      obtain ⟨v5, e_v5, h⟩ := bnd h
      refine G_getR F okX3 (f := 0) (by decide) q225 rfl dX3_isAgain_15 e_v5 ?_
      refine G_iload_n F dX3_isAgain_18 rfl ?_
      obtain ⟨v6, e_v6, h⟩ := bnd h
      refine G_aald F (t := 6) (by decide) dX3_isAgain_19 e_v6 ?_
      obtain ⟨v7, e_v7, h⟩ := bnd h
      refine G_getIN F okX4 (f := 3) (by decide) q204 rfl dX3_isAgain_20 e_v7 ?_
      obtain ⟨m8, e_m8, h⟩ := bnd h
      refine G_putVN F okX4 (f := 3) (by decide) q204 rfl rfl dX3_isAgain_23 (vfit_int _) e_m8 ?_
      refine G_aload_n F dX3_isAgain_26 rfl ?_
      obtain ⟨v9, e_v9, h⟩ := bnd h
      refine G_getR F okX3 (f := 0) (by decide) q225 rfl dX3_isAgain_27 e_v9 ?_
      refine G_iload_n F dX3_isAgain_30 rfl ?_
      obtain ⟨v10, e_v10, h⟩ := bnd h
      refine G_aald F (t := 6) (by decide) dX3_isAgain_31 e_v10 ?_
      refine G_aload_n F dX3_isAgain_32 rfl ?_
      obtain ⟨v11, e_v11, h⟩ := bnd h
      refine G_getR F okX3 (f := 0) (by decide) q225 rfl dX3_isAgain_33 e_v11 ?_
      refine G_iload_n F dX3_isAgain_36 rfl ?_
      obtain ⟨v12, e_v12, h⟩ := bnd h
      refine G_aald F (t := 6) (by decide) dX3_isAgain_37 e_v12 ?_
      obtain ⟨v13, e_v13, h⟩ := bnd h
      refine G_getIN F okX4 (f := 4) (by decide) q207 rfl dX3_isAgain_38 e_v13 ?_
      obtain ⟨m14, e_m14, h⟩ := bnd h
      refine G_putVN F okX4 (f := 4) (by decide) q207 rfl rfl dX3_isAgain_41 (vfit_int _) e_m14 ?_
      refine G_iinc F (v := (s2_1 + (1 : Int32))) (L2 := [some (.inr a0), some (.inr a1), some (.inl (s2_1 + (1 : Int32)))]) dX3_isAgain_44 (by decide) rfl rfl rfl ?_
      refine G_goto F (tgt := 2) dX3_isAgain_47 (by decide) ?_
      cases h
      exact G_sub F (L2 := [some (.inr a0), some (.inr a1), some (.inl (s2_1 + (1 : Int32)))]) ⟨rfl, ⟨rfl, ⟨rfl, trivial⟩⟩⟩ (hP1 _ rfl)
  have hI := iter_ok (fun (s : (Int32 × Hp)) => match s with | (s2_1, m1) => G X cx 3 (Qm X cx none m_ nx 0 0) (0) (0) m1 (nx) [some (.inr a0), some (.inr a1), some (.inl s2_1)] [] 2) (fun q => q = r1) KB1 _ _ _ hr1 rfl
  exact G_sub F (L2 := [some (.inr a0), some (.inr a1), some (.inl (0 : Int32))]) ⟨rfl, ⟨rfl, ⟨rfl, trivial⟩⟩⟩ hI

theorem metX0_undo (X : Gx) {m : Hp} {nx : Nat} {a0 : Option Nat} {rv : Int32} {m_ : Hp} (h : fX0_undo m a0 = some (rv, m_)) : Con X (2) yX0_undo cX0_undo 1 ((Option.some FieldType.boolean)) [.inr a0] m nx (some (.inl rv)) m_ 0 0 := by
  refine Con.of (own := RX0) (nm := "undo") (L := [some (.inr a0)]) (by decide +kernel) rfl rfl (Nat.le_of_ble_eq_true rfl) (ent_of 0 rfl) ?_
  intro cx F
  refine G_aload_n F dX0_undo_0 rfl ?_
  obtain ⟨v1, e_v1, h⟩ := bnd h
  refine G_getI F okX0 (f := 13) (by decide) q351 rfl dX0_undo_1 e_v1 ?_
  refine G_if_ne F (tgt := 9) dX0_undo_4 (by decide) (fun c2 => ?_) (fun c2 => ?_)
  · have h := itf c2 h
    refine G_aload_n F dX0_undo_9 rfl ?_
    obtain ⟨v3, e_v3, h⟩ := bnd h
    refine G_getR F okX0 (f := 7) (by decide) q342 rfl dX0_undo_10 e_v3 ?_
    refine G_aload_n F dX0_undo_13 rfl ?_
    obtain ⟨v4, e_v4, h⟩ := bnd h
    refine G_getR F okX0 (f := 9) (by decide) q344 rfl dX0_undo_14 e_v4 ?_
    obtain ⟨m5, e_m5, h⟩ := bnd h
    obtain ⟨hc_m5, e_m5⟩ := hp_on_of e_m5
    refine G_callV0 F (As := [.inr v4]) (st := []) (metX3_isAgain X e_m5) hc_m5 rfl rfl (lw_V q1198 q1199 q1200 q105 q1201) hdfX3_isAgain ⟨by omega, by decide⟩ rfl (Nat.le_of_ble_eq_true rfl) ⟨by omega, by omega⟩ dX0_undo_17 ?_
    refine G_iconst F (v := (1 : Int32)) dX0_undo_20 (by decide) ?_
    cases h
    exact G_zret F rfl (Or.inr rfl) (Nat.le_refl _) (Nat.le_refl _) rfl dX0_undo_21
  · have h := itt c2 h
    refine G_iconst F (v := (0 : Int32)) dX0_undo_7 (by decide) ?_
    cases h
    exact G_zret F rfl (Or.inl rfl) (Nat.le_refl _) (Nat.le_refl _) rfl dX0_undo_8

theorem metX0_check (X : Gx) {m : Hp} {nx : Nat} {a0 : Option Nat} {a1 : Int32} {rv : Int32} {m_ : Hp} (h : fX0_check m a0 a1 = some (rv, m_)) : Con X (3) yX0_check cX0_check 3 ((Option.some FieldType.int)) [.inr a0, .inl a1] m nx (some (.inl rv)) m_ 0 0 := by
  refine Con.of (own := RX0) (nm := "check") (L := [some (.inr a0), some (.inl a1), none]) (by decide +kernel) rfl rfl (Nat.le_of_ble_eq_true rfl) (ent_of 1 rfl) ?_
  intro cx F
  refine G_iload_n F dX0_check_0 rfl ?_
  refine G_iconst F (v := (0 : Int32)) dX0_check_1 (by decide) ?_
  refine G_bipush F (v := (12 : Int32)) dX0_check_2 (by decide) ?_
  obtain ⟨v1, e_v1, h⟩ := bnd h
  refine G_callSv F (As := [.inl a1, .inl (0 : Int32), .inl (12 : Int32)]) (st := []) (metX0_within X e_v1) (lw_S q422 q423 q102 q424) hdfX0_within ⟨by omega, by decide⟩ rfl (Nat.le_of_ble_eq_true rfl) ⟨by omega, by omega⟩ dX0_check_4 ?_
  refine G_if_eq F (tgt := 18) dX0_check_7 (by decide) (fun c2 => ?_) (fun c2 => ?_)
  · have h := itt c2 h
    refine G_bipush F (v := (-2 : Int32)) dX0_check_18 (by decide) ?_
    cases h
    exact G_iret F rfl (Nat.le_refl _) (Nat.le_refl _) rfl dX0_check_20
  · have h := itf c2 h
    refine G_iload_n F dX0_check_10 rfl ?_
    refine G_aload_n F dX0_check_11 rfl ?_
    obtain ⟨v3, e_v3, h⟩ := bnd h
    refine G_getI F okX0 (f := 12) (by decide) q350 rfl dX0_check_12 e_v3 ?_
    refine G_icmp_le F (tgt := 21) dX0_check_15 (by decide) (fun c4 => ?_) (fun c4 => ?_)
    · have h := itt c4 h
      refine G_aload_n F dX0_check_21 rfl ?_
      refine G_iconst F (v := (0 : Int32)) dX0_check_22 (by decide) ?_
      obtain ⟨m5, e_m5, h⟩ := bnd h
      refine G_putV F okX0 (f := 12) (by decide) q350 rfl rfl dX0_check_23 (vfit_int _) e_m5 ?_
      refine G_iconst F (v := (0 : Int32)) dX0_check_26 (by decide) ?_
      refine G_istore_n F (L2 := [some (.inr a0), some (.inl a1), some (.inl (0 : Int32))]) dX0_check_27 (by decide) rfl ?_
      obtain ⟨r6, hr6, h⟩ := bnd h
      have KE6 : ∀ (_ : Unit), Sum.inl () = r6 → G X cx 3 (Qm X cx (some (.inl rv)) m_ nx 0 0) (0) (0) m5 (nx) [none, none, none] [] 82 := by
        intro _ hq
        subst hq
        try dsimp only at h
        refine G_iconst F (v := (-1 : Int32)) dX0_check_82 (by decide) ?_
        cases h
        exact G_iret F rfl (Nat.le_refl _) (Nat.le_refl _) rfl dX0_check_83
      have KR6 : ∀ q, Sum.inr q = r6 → some q = some (rv, m_) := by
        intro q hq
        subst hq
        exact h
      have KB6 : ∀ s o6, fX0_check_L28 m5 a0 a1 s = some o6 → (∀ s', o6 = Sum.inl s' → (fun (s : Int32) => match s with | s2_6 => G X cx 3 (Qm X cx (some (.inl rv)) m_ nx 0 0) (0) (0) m5 (nx) [some (.inr a0), some (.inl a1), some (.inl s2_6)] [] 28) s') → (∀ q, o6 = Sum.inr q → q = r6) → (fun (s : Int32) => match s with | s2_6 => G X cx 3 (Qm X cx (some (.inl rv)) m_ nx 0 0) (0) (0) m5 (nx) [some (.inr a0), some (.inl a1), some (.inl s2_6)] [] 28) s := by
        intro s o6 h hP6 hE6
        obtain ⟨s2_6, hs_⟩ : ∃ x, x = s := ⟨_, rfl⟩
        subst hs_
        try dsimp only at hP6 hE6 ⊢
        refine G_iload_n F dX0_check_28 rfl ?_
        refine G_iload_n F dX0_check_29 rfl ?_
        refine G_icmp_ge F (tgt := 82) dX0_check_30 (by decide) (fun c7 => ?_) (fun c7 => ?_)
        · have h := itt c7 h
          cases h
          exact G_sub F (L2 := [none, none, none]) trivial (KE6 () (hE6 _ rfl))
        · have h := itf c7 h
          refine G_aload_n F dX0_check_33 rfl ?_
          obtain ⟨v8, e_v8, h⟩ := bnd h
          refine G_getR F okX0 (f := 10) (by decide) q347 rfl dX0_check_34 e_v8 ?_
          refine G_iload_n F dX0_check_37 rfl ?_
          obtain ⟨v9, e_v9, h⟩ := bnd h
          refine G_bald F dX0_check_38 e_v9 ?_
          refine G_sipush F (v := (255 : Int32)) dX0_check_39 (by decide) ?_
          refine G_iand F dX0_check_42 ?_
          refine G_aload_n F dX0_check_43 rfl ?_
          refine G_iload_n F dX0_check_44 rfl ?_
          obtain ⟨v10, e_v10, h⟩ := bnd h
          obtain ⟨hc_v10, e_v10⟩ := hp_on_of e_v10
          refine G_callVv F (As := [.inl s2_6]) (st := [.inl (v9 &&& (255 : Int32))]) (metX0_isTold X e_v10) hc_v10 rfl rfl (lw_V q1016 q1018 qs28 q102 q1019) hdfX0_isTold ⟨by omega, by decide⟩ rfl (Nat.le_of_ble_eq_true rfl) ⟨by omega, by omega⟩ dX0_check_45 ?_
          refine G_if_eq F (tgt := 70) dX0_check_48 (by decide) (fun c11 => ?_) (fun c11 => ?_)
          · have h := itt c11 h
            refine G_iconst F (v := (0 : Int32)) dX0_check_70 (by decide) ?_
            refine G_icmp_eq F (tgt := 76) dX0_check_71 (by decide) (fun c12 => ?_) (fun c12 => ?_)
            · have h := itt c12 h
              refine G_iinc F (v := (s2_6 + (1 : Int32))) (L2 := [some (.inr a0), some (.inl a1), some (.inl (s2_6 + (1 : Int32)))]) dX0_check_76 (by decide) rfl rfl rfl ?_
              refine G_goto F (tgt := 28) dX0_check_79 (by decide) ?_
              cases h
              exact G_sub F (L2 := [some (.inr a0), some (.inl a1), some (.inl (s2_6 + (1 : Int32)))]) ⟨rfl, ⟨rfl, ⟨rfl, trivial⟩⟩⟩ (hP6 _ rfl)
            · have h := itf c12 h
              refine G_iload_n F dX0_check_74 rfl ?_
              cases h
              have h := KR6 _ (hE6 _ rfl)
              cases h
              exact G_iret F rfl (Nat.le_refl _) (Nat.le_refl _) rfl dX0_check_75
          · have h := itf c11 h
            refine G_aload_n F dX0_check_51 rfl ?_
            obtain ⟨v13, e_v13, h⟩ := bnd h
            refine G_getR F okX0 (f := 7) (by decide) q342 rfl dX0_check_52 e_v13 ?_
            obtain ⟨v14, e_v14, h⟩ := bnd h
            refine G_getRN F okX3 (f := 0) (by decide) q226 rfl dX0_check_55 e_v14 ?_
            refine G_iload_n F dX0_check_58 rfl ?_
            obtain ⟨v15, e_v15, h⟩ := bnd h
            refine G_aald F (t := 6) (by decide) dX0_check_59 e_v15 ?_
            obtain ⟨v16, e_v16, h⟩ := bnd h
            refine G_getIN F okX4 (f := 4) (by decide) q208 rfl dX0_check_60 e_v16 ?_
            refine G_sipush F (v := (255 : Int32)) dX0_check_63 (by decide) ?_
            refine G_iand F dX0_check_66 ?_
            refine G_goto F (tgt := 71) dX0_check_67 (by decide) ?_
            refine G_icmp_eq F (tgt := 76) dX0_check_71 (by decide) (fun c17 => ?_) (fun c17 => ?_)
            · have h := itt c17 h
              refine G_iinc F (v := (s2_6 + (1 : Int32))) (L2 := [some (.inr a0), some (.inl a1), some (.inl (s2_6 + (1 : Int32)))]) dX0_check_76 (by decide) rfl rfl rfl ?_
              refine G_goto F (tgt := 28) dX0_check_79 (by decide) ?_
              cases h
              exact G_sub F (L2 := [some (.inr a0), some (.inl a1), some (.inl (s2_6 + (1 : Int32)))]) ⟨rfl, ⟨rfl, ⟨rfl, trivial⟩⟩⟩ (hP6 _ rfl)
            · have h := itf c17 h
              refine G_iload_n F dX0_check_74 rfl ?_
              cases h
              have h := KR6 _ (hE6 _ rfl)
              cases h
              exact G_iret F rfl (Nat.le_refl _) (Nat.le_refl _) rfl dX0_check_75
      have hI := iter_ok (fun (s : Int32) => match s with | s2_6 => G X cx 3 (Qm X cx (some (.inl rv)) m_ nx 0 0) (0) (0) m5 (nx) [some (.inr a0), some (.inl a1), some (.inl s2_6)] [] 28) (fun q => q = r6) KB6 _ _ _ hr6 rfl
      exact G_sub F (L2 := [some (.inr a0), some (.inl a1), some (.inl (0 : Int32))]) ⟨rfl, ⟨rfl, ⟨rfl, trivial⟩⟩⟩ hI
    · have h := itf c4 h
      refine G_bipush F (v := (-2 : Int32)) dX0_check_18 (by decide) ?_
      cases h
      exact G_iret F rfl (Nat.le_refl _) (Nat.le_refl _) rfl dX0_check_20

theorem metX0_told (X : Gx) {m : Hp} {nx : Nat} {a0 : Option Nat} {rv : Int32} (h : fX0_told m a0 = some rv) : Con X (3) yX0_told cX0_told 3 ((Option.some FieldType.int)) [.inr a0] m nx (some (.inl rv)) m 0 0 := by
  refine Con.of (own := RX0) (nm := "told") (L := [some (.inr a0), none, none]) (by decide +kernel) rfl rfl (Nat.le_of_ble_eq_true rfl) (ent_of 2 rfl) ?_
  intro cx F
  refine G_iconst F (v := (0 : Int32)) dX0_told_0 (by decide) ?_
  refine G_istore_n F (L2 := [some (.inr a0), some (.inl (0 : Int32)), none]) dX0_told_1 (by decide) rfl ?_
  refine G_iconst F (v := (0 : Int32)) dX0_told_2 (by decide) ?_
  refine G_istore_n F (L2 := [some (.inr a0), some (.inl (0 : Int32)), some (.inl (0 : Int32))]) dX0_told_3 (by decide) rfl ?_
  obtain ⟨r1, hr1, h⟩ := bnd h
  have KE1 : ∀ (v5 : Int32), v5 = r1 → G X cx 3 (Qm X cx (some (.inl rv)) m nx 0 0) (0) (0) m (nx) [none, some (.inl v5), none] [] 34 := by
    intro v5 hq
    subst hq
    try dsimp only at h
    refine G_iload_n F dX0_told_34 rfl ?_
    cases h
    exact G_iret F rfl (Nat.le_refl _) (Nat.le_refl _) rfl dX0_told_35
  have KB1 : ∀ s o1, fX0_told_L4 m a0 s = some o1 → (∀ s', o1 = Sum.inl s' → (fun (s : (Int32 × Int32)) => match s with | (s1_1, s2_1) => G X cx 3 (Qm X cx (some (.inl rv)) m nx 0 0) (0) (0) m (nx) [some (.inr a0), some (.inl s1_1), some (.inl s2_1)] [] 4) s') → (∀ q, o1 = Sum.inr q → q = r1) → (fun (s : (Int32 × Int32)) => match s with | (s1_1, s2_1) => G X cx 3 (Qm X cx (some (.inl rv)) m nx 0 0) (0) (0) m (nx) [some (.inr a0), some (.inl s1_1), some (.inl s2_1)] [] 4) s := by
    intro s o1 h hP1 hE1
    obtain ⟨s1_1, s2_1⟩ := s
    try dsimp only at hP1 hE1 ⊢
    refine G_iload_n F dX0_told_4 rfl ?_
    refine G_bipush F (v := (12 : Int32)) dX0_told_5 (by decide) ?_
    refine G_icmp_ge F (tgt := 34) dX0_told_7 (by decide) (fun c2 => ?_) (fun c2 => ?_)
    · have h := itt c2 h
      cases h
      exact G_sub F (L2 := [none, some (.inl s1_1), none]) ⟨rfl, trivial⟩ (KE1 _ (hE1 _ rfl))
    · have h := itf c2 h
      refine G_iload_n F dX0_told_10 rfl ?_
      refine G_aload_n F dX0_told_11 rfl ?_
      refine G_iload_n F dX0_told_12 rfl ?_
      obtain ⟨v3, e_v3, h⟩ := bnd h
      obtain ⟨hc_v3, e_v3⟩ := hp_on_of e_v3
      refine G_callVv F (As := [.inl s2_1]) (st := [.inl s1_1]) (metX0_isTold X e_v3) hc_v3 rfl rfl (lw_V q1016 q1018 qs28 q102 q1019) hdfX0_isTold ⟨by omega, by decide⟩ rfl (Nat.le_of_ble_eq_true rfl) ⟨by omega, by omega⟩ dX0_told_13 ?_
      refine G_if_eq F (tgt := 25) dX0_told_16 (by decide) (fun c4 => ?_) (fun c4 => ?_)
      · have h := itt c4 h
        refine G_iconst F (v := (0 : Int32)) dX0_told_25 (by decide) ?_
        refine G_ior F dX0_told_26 ?_
        refine G_istore_n F (L2 := [some (.inr a0), some (.inl (s1_1 ||| (0 : Int32))), some (.inl s2_1)]) dX0_told_27 (by decide) rfl ?_
        refine G_iinc F (v := (s2_1 + (1 : Int32))) (L2 := [some (.inr a0), some (.inl (s1_1 ||| (0 : Int32))), some (.inl (s2_1 + (1 : Int32)))]) dX0_told_28 (by decide) rfl rfl rfl ?_
        refine G_goto F (tgt := 4) dX0_told_31 (by decide) ?_
        cases h
        exact G_sub F (L2 := [some (.inr a0), some (.inl (s1_1 ||| (0 : Int32))), some (.inl (s2_1 + (1 : Int32)))]) ⟨rfl, ⟨rfl, ⟨rfl, trivial⟩⟩⟩ (hP1 _ rfl)
      · have h := itf c4 h
        refine G_iconst F (v := (1 : Int32)) dX0_told_19 (by decide) ?_
        refine G_iload_n F dX0_told_20 rfl ?_
        refine G_ishl F dX0_told_21 ?_
        refine G_goto F (tgt := 26) dX0_told_22 (by decide) ?_
        refine G_ior F dX0_told_26 ?_
        refine G_istore_n F (L2 := [some (.inr a0), some (.inl (s1_1 ||| (jshl (1 : Int32) s2_1))), some (.inl s2_1)]) dX0_told_27 (by decide) rfl ?_
        refine G_iinc F (v := (s2_1 + (1 : Int32))) (L2 := [some (.inr a0), some (.inl (s1_1 ||| (jshl (1 : Int32) s2_1))), some (.inl (s2_1 + (1 : Int32)))]) dX0_told_28 (by decide) rfl rfl rfl ?_
        refine G_goto F (tgt := 4) dX0_told_31 (by decide) ?_
        cases h
        exact G_sub F (L2 := [some (.inr a0), some (.inl (s1_1 ||| (jshl (1 : Int32) s2_1))), some (.inl (s2_1 + (1 : Int32)))]) ⟨rfl, ⟨rfl, ⟨rfl, trivial⟩⟩⟩ (hP1 _ rfl)
  have hI := iter_ok (fun (s : (Int32 × Int32)) => match s with | (s1_1, s2_1) => G X cx 3 (Qm X cx (some (.inl rv)) m nx 0 0) (0) (0) m (nx) [some (.inr a0), some (.inl s1_1), some (.inl s2_1)] [] 4) (fun q => q = r1) KB1 _ _ _ hr1 rfl
  exact G_sub F (L2 := [some (.inr a0), some (.inl (0 : Int32)), some (.inl (0 : Int32))]) ⟨rfl, ⟨rfl, ⟨rfl, trivial⟩⟩⟩ hI

theorem metX0_countedOfAll (X : Gx) {m : Hp} {nx : Nat} {a0 : Option Nat} {a1 : Int32} {rv : Int32} (h : fX0_countedOfAll m a0 a1 = some rv) : Con X (1) yX0_countedOfAll cX0_countedOfAll 7 ((Option.some FieldType.int)) [.inr a0, .inl a1] m nx (some (.inl rv)) m 0 0 := by
  refine Con.of (own := RX0) (nm := "countedOfAll") (L := [some (.inr a0), some (.inl a1), none, none, none, none, none]) (by decide +kernel) rfl rfl (Nat.le_of_ble_eq_true rfl) (ent_of 5 rfl) ?_
  intro cx F
  refine G_iconst F (v := (0 : Int32)) dX0_countedOfAll_0 (by decide) ?_
  refine G_istore_n F (L2 := [some (.inr a0), some (.inl a1), some (.inl (0 : Int32)), none, none, none, none]) dX0_countedOfAll_1 (by decide) rfl ?_
  refine G_aload_n F dX0_countedOfAll_2 rfl ?_
  obtain ⟨v1, e_v1, h⟩ := bnd h
  refine G_getR F okX0 (f := 7) (by decide) q342 rfl dX0_countedOfAll_3 e_v1 ?_
  obtain ⟨v2, e_v2, h⟩ := bnd h
  refine G_getRN F okX3 (f := 0) (by decide) q226 rfl dX0_countedOfAll_6 e_v2 ?_
  refine G_astore_n F (L2 := [some (.inr a0), some (.inl a1), some (.inl (0 : Int32)), some (.inr v2), none, none, none]) dX0_countedOfAll_9 (by decide) rfl ?_
  refine G_aload_n F dX0_countedOfAll_10 rfl ?_
  obtain ⟨v3, e_v3, h⟩ := bnd h
  refine G_alen F (t := 6) (by decide) dX0_countedOfAll_11 e_v3 ?_
  refine G_istore F (L2 := [some (.inr a0), some (.inl a1), some (.inl (0 : Int32)), some (.inr v2), some (.inl v3), none, none]) dX0_countedOfAll_12 (by decide) rfl ?_
  refine G_iconst F (v := (0 : Int32)) dX0_countedOfAll_14 (by decide) ?_
  refine G_istore F (L2 := [some (.inr a0), some (.inl a1), some (.inl (0 : Int32)), some (.inr v2), some (.inl v3), some (.inl (0 : Int32)), none]) dX0_countedOfAll_15 (by decide) rfl ?_
  obtain ⟨r4, hr4, h⟩ := bnd h
  have KE4 : ∀ (v12 : Int32), v12 = r4 → G X cx 7 (Qm X cx (some (.inl rv)) m nx 0 0) (0) (0) m (nx) [none, none, some (.inl v12), none, none, none, none] [] 68 := by
    intro v12 hq
    subst hq
    try dsimp only at h
    refine G_iload_n F dX0_countedOfAll_68 rfl ?_
    cases h
    exact G_iret F rfl (Nat.le_refl _) (Nat.le_refl _) rfl dX0_countedOfAll_69
  have KB4 : ∀ s o4, fX0_countedOfAll_L17 m a1 v2 v3 s = some o4 → (∀ s', o4 = Sum.inl s' → (fun (s : (Int32 × Int32)) => match s with | (s2_4, s5_4) => G X cx 7 (Qm X cx (some (.inl rv)) m nx 0 0) (0) (0) m (nx) [none, some (.inl a1), some (.inl s2_4), some (.inr v2), some (.inl v3), some (.inl s5_4), none] [] 17) s') → (∀ q, o4 = Sum.inr q → q = r4) → (fun (s : (Int32 × Int32)) => match s with | (s2_4, s5_4) => G X cx 7 (Qm X cx (some (.inl rv)) m nx 0 0) (0) (0) m (nx) [none, some (.inl a1), some (.inl s2_4), some (.inr v2), some (.inl v3), some (.inl s5_4), none] [] 17) s := by
    intro s o4 h hP4 hE4
    obtain ⟨s2_4, s5_4⟩ := s
    try dsimp only at hP4 hE4 ⊢
    refine G_iload F dX0_countedOfAll_17 rfl ?_
    refine G_iload F dX0_countedOfAll_19 rfl ?_
    refine G_icmp_ge F (tgt := 68) dX0_countedOfAll_21 (by decide) (fun c5 => ?_) (fun c5 => ?_)
    · have h := itt c5 h
      cases h
      exact G_sub F (L2 := [none, none, some (.inl s2_4), none, none, none, none]) ⟨rfl, trivial⟩ (KE4 _ (hE4 _ rfl))
    · have h := itf c5 h
      refine G_aload_n F dX0_countedOfAll_24 rfl ?_
      refine G_iload F dX0_countedOfAll_25 rfl ?_
      obtain ⟨v6, e_v6, h⟩ := bnd h
      refine G_aald F (t := 6) (by decide) dX0_countedOfAll_27 e_v6 ?_
      refine G_astore F (L2 := [none, some (.inl a1), some (.inl s2_4), some (.inr v2), some (.inl v3), some (.inl s5_4), some (.inr v6)]) dX0_countedOfAll_28 (by decide) rfl ?_
      refine G_iload_n F dX0_countedOfAll_30 rfl ?_
      refine G_aload F dX0_countedOfAll_31 rfl ?_
      obtain ⟨v7, e_v7, h⟩ := bnd h
      refine G_getIN F okX4 (f := 5) (by decide) q211 rfl dX0_countedOfAll_33 e_v7 ?_
      refine G_if_ne F (tgt := 43) dX0_countedOfAll_36 (by decide) (fun c8 => ?_) (fun c8 => ?_)
      · have h := itf c8 h
        refine G_iload_n F dX0_countedOfAll_43 rfl ?_
        refine G_if_eq F (tgt := 55) dX0_countedOfAll_44 (by decide) (fun c9 => ?_) (fun c9 => ?_)
        · have h := itt c9 h
          refine G_aload F dX0_countedOfAll_55 rfl ?_
          obtain ⟨v10, e_v10, h⟩ := bnd h
          refine G_getIN F okX4 (f := 4) (by decide) q208 rfl dX0_countedOfAll_57 e_v10 ?_
          refine G_iadd F dX0_countedOfAll_60 ?_
          refine G_istore_n F (L2 := [none, some (.inl a1), some (.inl (s2_4 + v10)), some (.inr v2), some (.inl v3), some (.inl s5_4), some (.inr v6)]) dX0_countedOfAll_61 (by decide) rfl ?_
          refine G_iinc F (v := (s5_4 + (1 : Int32))) (L2 := [none, some (.inl a1), some (.inl (s2_4 + v10)), some (.inr v2), some (.inl v3), some (.inl (s5_4 + (1 : Int32))), some (.inr v6)]) dX0_countedOfAll_62 (by decide) rfl rfl rfl ?_
          refine G_goto F (tgt := 17) dX0_countedOfAll_65 (by decide) ?_
          cases h
          exact G_sub F (L2 := [none, some (.inl a1), some (.inl (s2_4 + v10)), some (.inr v2), some (.inl v3), some (.inl (s5_4 + (1 : Int32))), none]) ⟨rfl, ⟨rfl, ⟨rfl, ⟨rfl, ⟨rfl, trivial⟩⟩⟩⟩⟩ (hP4 _ rfl)
        · have h := itf c9 h
          refine G_aload F dX0_countedOfAll_47 rfl ?_
          obtain ⟨v11, e_v11, h⟩ := bnd h
          refine G_getIN F okX4 (f := 3) (by decide) q205 rfl dX0_countedOfAll_49 e_v11 ?_
          refine G_goto F (tgt := 60) dX0_countedOfAll_52 (by decide) ?_
          refine G_iadd F dX0_countedOfAll_60 ?_
          refine G_istore_n F (L2 := [none, some (.inl a1), some (.inl (s2_4 + v11)), some (.inr v2), some (.inl v3), some (.inl s5_4), some (.inr v6)]) dX0_countedOfAll_61 (by decide) rfl ?_
          refine G_iinc F (v := (s5_4 + (1 : Int32))) (L2 := [none, some (.inl a1), some (.inl (s2_4 + v11)), some (.inr v2), some (.inl v3), some (.inl (s5_4 + (1 : Int32))), some (.inr v6)]) dX0_countedOfAll_62 (by decide) rfl rfl rfl ?_
          refine G_goto F (tgt := 17) dX0_countedOfAll_65 (by decide) ?_
          cases h
          exact G_sub F (L2 := [none, some (.inl a1), some (.inl (s2_4 + v11)), some (.inr v2), some (.inl v3), some (.inl (s5_4 + (1 : Int32))), none]) ⟨rfl, ⟨rfl, ⟨rfl, ⟨rfl, ⟨rfl, trivial⟩⟩⟩⟩⟩ (hP4 _ rfl)
      · have h := itt c8 h
        refine G_iconst F (v := (0 : Int32)) dX0_countedOfAll_39 (by decide) ?_
        refine G_goto F (tgt := 60) dX0_countedOfAll_40 (by decide) ?_
        refine G_iadd F dX0_countedOfAll_60 ?_
        refine G_istore_n F (L2 := [none, some (.inl a1), some (.inl (s2_4 + (0 : Int32))), some (.inr v2), some (.inl v3), some (.inl s5_4), some (.inr v6)]) dX0_countedOfAll_61 (by decide) rfl ?_
        refine G_iinc F (v := (s5_4 + (1 : Int32))) (L2 := [none, some (.inl a1), some (.inl (s2_4 + (0 : Int32))), some (.inr v2), some (.inl v3), some (.inl (s5_4 + (1 : Int32))), some (.inr v6)]) dX0_countedOfAll_62 (by decide) rfl rfl rfl ?_
        refine G_goto F (tgt := 17) dX0_countedOfAll_65 (by decide) ?_
        cases h
        exact G_sub F (L2 := [none, some (.inl a1), some (.inl (s2_4 + (0 : Int32))), some (.inr v2), some (.inl v3), some (.inl (s5_4 + (1 : Int32))), none]) ⟨rfl, ⟨rfl, ⟨rfl, ⟨rfl, ⟨rfl, trivial⟩⟩⟩⟩⟩ (hP4 _ rfl)
  have hI := iter_ok (fun (s : (Int32 × Int32)) => match s with | (s2_4, s5_4) => G X cx 7 (Qm X cx (some (.inl rv)) m nx 0 0) (0) (0) m (nx) [none, some (.inl a1), some (.inl s2_4), some (.inr v2), some (.inl v3), some (.inl s5_4), none] [] 17) (fun q => q = r4) KB4 _ _ _ hr4 rfl
  exact G_sub F (L2 := [none, some (.inl a1), some (.inl (0 : Int32)), some (.inr v2), some (.inl v3), some (.inl (0 : Int32)), none]) ⟨rfl, ⟨rfl, ⟨rfl, ⟨rfl, ⟨rfl, trivial⟩⟩⟩⟩⟩ hI

theorem metX0_count (X : Gx) {m : Hp} {nx : Nat} {a0 : Option Nat} {a1 : Int32} {rv : Int32} (h : fX0_count m a0 a1 = some rv) : Con X (4) yX0_count cX0_count 2 ((Option.some FieldType.int)) [.inr a0, .inl a1] m nx (some (.inl rv)) m 0 0 := by
  refine Con.of (own := RX0) (nm := "count") (L := [some (.inr a0), some (.inl a1)]) (by decide +kernel) rfl rfl (Nat.le_of_ble_eq_true rfl) (ent_of 0 rfl) ?_
  intro cx F
  refine G_iload_n F dX0_count_0 rfl ?_
  by_cases c1 : a1 = (0 : Int32)
  · have h := itt c1 h
    refine G_tabIn F (tgt := 64) dX0_count_1 (by rw [c1]; decide) (by rw [c1]; decide) (by rw [c1]; rfl) (by decide) ?_
    refine G_aload_n F dX0_count_64 rfl ?_
    obtain ⟨v2, e_v2, h⟩ := bnd h
    refine G_getR F okX0 (f := 7) (by decide) q342 rfl dX0_count_65 e_v2 ?_
    obtain ⟨v3, e_v3, h⟩ := bnd h
    refine G_getIN F okX3 (f := 3) (by decide) q230 rfl dX0_count_68 e_v3 ?_
    cases h
    exact G_iret F rfl (Nat.le_refl _) (Nat.le_refl _) rfl dX0_count_71
  have h := itf c1 h
  by_cases c4 : a1 = (1 : Int32)
  · have h := itt c4 h
    refine G_tabIn F (tgt := 72) dX0_count_1 (by rw [c4]; decide) (by rw [c4]; decide) (by rw [c4]; rfl) (by decide) ?_
    refine G_aload_n F dX0_count_72 rfl ?_
    obtain ⟨v5, e_v5, h⟩ := bnd h
    obtain ⟨hc_v5, e_v5⟩ := hp_on_of e_v5
    refine G_callVv F (As := []) (st := []) (metX0_told X e_v5) hc_v5 rfl rfl (lw_V q1210 q1212 qs41 q102 q1213) hdfX0_told ⟨by omega, by decide⟩ rfl (Nat.le_of_ble_eq_true rfl) ⟨by omega, by omega⟩ dX0_count_73 ?_
    cases h
    exact G_iret F rfl (Nat.le_refl _) (Nat.le_refl _) rfl dX0_count_76
  have h := itf c4 h
  by_cases c6 : a1 = (2 : Int32)
  · have h := itt c6 h
    refine G_tabIn F (tgt := 77) dX0_count_1 (by rw [c6]; decide) (by rw [c6]; decide) (by rw [c6]; rfl) (by decide) ?_
    refine G_aload_n F dX0_count_77 rfl ?_
    obtain ⟨v7, e_v7, h⟩ := bnd h
    refine G_getI F okX0 (f := 3) (by decide) q335 rfl dX0_count_78 e_v7 ?_
    cases h
    exact G_iret F rfl (Nat.le_refl _) (Nat.le_refl _) rfl dX0_count_81
  have h := itf c6 h
  by_cases c8 : a1 = (3 : Int32)
  · have h := itt c8 h
    refine G_tabIn F (tgt := 82) dX0_count_1 (by rw [c8]; decide) (by rw [c8]; decide) (by rw [c8]; rfl) (by decide) ?_
    refine G_aload_n F dX0_count_82 rfl ?_
    obtain ⟨v9, e_v9, h⟩ := bnd h
    obtain ⟨hc_v9, e_v9⟩ := hp_on_of e_v9
    refine G_callVv F (As := []) (st := []) (metX0_running X e_v9) hc_v9 rfl rfl (lw_V q1125 q1127 qs34 q102 q1128) hdfX0_running ⟨by omega, by decide⟩ rfl (Nat.le_of_ble_eq_true rfl) ⟨by omega, by omega⟩ dX0_count_83 ?_
    cases h
    exact G_iret F rfl (Nat.le_refl _) (Nat.le_refl _) rfl dX0_count_86
  have h := itf c8 h
  by_cases c10 : a1 = (4 : Int32)
  · have h := itt c10 h
    refine G_tabIn F (tgt := 87) dX0_count_1 (by rw [c10]; decide) (by rw [c10]; decide) (by rw [c10]; rfl) (by decide) ?_
    refine G_aload_n F dX0_count_87 rfl ?_
    obtain ⟨v11, e_v11, h⟩ := bnd h
    refine G_getI F okX0 (f := 5) (by decide) q339 rfl dX0_count_88 e_v11 ?_
    cases h
    exact G_iret F rfl (Nat.le_refl _) (Nat.le_refl _) rfl dX0_count_91
  have h := itf c10 h
  by_cases c12 : a1 = (5 : Int32)
  · have h := itt c12 h
    refine G_tabIn F (tgt := 92) dX0_count_1 (by rw [c12]; decide) (by rw [c12]; decide) (by rw [c12]; rfl) (by decide) ?_
    refine G_aload_n F dX0_count_92 rfl ?_
    obtain ⟨v13, e_v13, h⟩ := bnd h
    refine G_getR F okX0 (f := 11) (by decide) q349 rfl dX0_count_93 e_v13 ?_
    obtain ⟨v14, e_v14, h⟩ := bnd h
    refine G_getIN F okX5 (f := 3) (by decide) q277 rfl dX0_count_96 e_v14 ?_
    cases h
    exact G_iret F rfl (Nat.le_refl _) (Nat.le_refl _) rfl dX0_count_99
  have h := itf c12 h
  by_cases c15 : a1 = (6 : Int32)
  · have h := itt c15 h
    refine G_tabIn F (tgt := 100) dX0_count_1 (by rw [c15]; decide) (by rw [c15]; decide) (by rw [c15]; rfl) (by decide) ?_
    refine G_aload_n F dX0_count_100 rfl ?_
    obtain ⟨v16, e_v16, h⟩ := bnd h
    refine G_getI F okX0 (f := 12) (by decide) q350 rfl dX0_count_101 e_v16 ?_
    cases h
    exact G_iret F rfl (Nat.le_refl _) (Nat.le_refl _) rfl dX0_count_104
  have h := itf c15 h
  by_cases c17 : a1 = (7 : Int32)
  · have h := itt c17 h
    refine G_tabIn F (tgt := 105) dX0_count_1 (by rw [c17]; decide) (by rw [c17]; decide) (by rw [c17]; rfl) (by decide) ?_
    refine G_aload_n F dX0_count_105 rfl ?_
    obtain ⟨v18, e_v18, h⟩ := bnd h
    refine G_getR F okX0 (f := 7) (by decide) q342 rfl dX0_count_106 e_v18 ?_
    obtain ⟨v19, e_v19, h⟩ := bnd h
    refine G_getIN F okX3 (f := 4) (by decide) q232 rfl dX0_count_109 e_v19 ?_
    cases h
    exact G_iret F rfl (Nat.le_refl _) (Nat.le_refl _) rfl dX0_count_112
  have h := itf c17 h
  by_cases c20 : a1 = (8 : Int32)
  · have h := itt c20 h
    refine G_tabIn F (tgt := 113) dX0_count_1 (by rw [c20]; decide) (by rw [c20]; decide) (by rw [c20]; rfl) (by decide) ?_
    refine G_aload_n F dX0_count_113 rfl ?_
    refine G_iconst F (v := (1 : Int32)) dX0_count_114 (by decide) ?_
    obtain ⟨v21, e_v21, h⟩ := bnd h
    obtain ⟨hc_v21, e_v21⟩ := hp_on_of e_v21
    refine G_callVv F (As := [.inl (1 : Int32)]) (st := []) (metX0_countedOfAll X e_v21) hc_v21 rfl rfl (lw_V q1214 q1216 qs42 q102 q1217) hdfX0_countedOfAll ⟨by omega, by decide⟩ rfl (Nat.le_of_ble_eq_true rfl) ⟨by omega, by omega⟩ dX0_count_115 ?_
    cases h
    exact G_iret F rfl (Nat.le_refl _) (Nat.le_refl _) rfl dX0_count_118
  have h := itf c20 h
  by_cases c22 : a1 = (9 : Int32)
  · have h := itt c22 h
    refine G_tabIn F (tgt := 119) dX0_count_1 (by rw [c22]; decide) (by rw [c22]; decide) (by rw [c22]; rfl) (by decide) ?_
    refine G_aload_n F dX0_count_119 rfl ?_
    refine G_iconst F (v := (0 : Int32)) dX0_count_120 (by decide) ?_
    obtain ⟨v23, e_v23, h⟩ := bnd h
    obtain ⟨hc_v23, e_v23⟩ := hp_on_of e_v23
    refine G_callVv F (As := [.inl (0 : Int32)]) (st := []) (metX0_countedOfAll X e_v23) hc_v23 rfl rfl (lw_V q1214 q1216 qs42 q102 q1217) hdfX0_countedOfAll ⟨by omega, by decide⟩ rfl (Nat.le_of_ble_eq_true rfl) ⟨by omega, by omega⟩ dX0_count_121 ?_
    cases h
    exact G_iret F rfl (Nat.le_refl _) (Nat.le_refl _) rfl dX0_count_124
  have h := itf c22 h
  by_cases c24 : a1 = (10 : Int32)
  · have h := itt c24 h
    refine G_tabIn F (tgt := 125) dX0_count_1 (by rw [c24]; decide) (by rw [c24]; decide) (by rw [c24]; rfl) (by decide) ?_
    refine G_aload_n F dX0_count_125 rfl ?_
    obtain ⟨v25, e_v25, h⟩ := bnd h
    refine G_getI F okX0 (f := 4) (by decide) q337 rfl dX0_count_126 e_v25 ?_
    cases h
    exact G_iret F rfl (Nat.le_refl _) (Nat.le_refl _) rfl dX0_count_129
  have h := itf c24 h
  by_cases c26 : a1 = (11 : Int32)
  · have h := itt c26 h
    refine G_tabIn F (tgt := 130) dX0_count_1 (by rw [c26]; decide) (by rw [c26]; decide) (by rw [c26]; rfl) (by decide) ?_
    refine G_aload_n F dX0_count_130 rfl ?_
    obtain ⟨v27, e_v27, h⟩ := bnd h
    refine G_getI F okX0 (f := 4) (by decide) q337 rfl dX0_count_131 e_v27 ?_
    refine G_if_ne F (tgt := 142) dX0_count_134 (by decide) (fun c28 => ?_) (fun c28 => ?_)
    · have h := itf c28 h
      refine G_aload_n F dX0_count_142 rfl ?_
      refine G_aload_n F dX0_count_143 rfl ?_
      obtain ⟨v29, e_v29, h⟩ := bnd h
      refine G_getI F okX0 (f := 4) (by decide) q337 rfl dX0_count_144 e_v29 ?_
      refine G_iconst F (v := (1 : Int32)) dX0_count_147 (by decide) ?_
      refine G_isub F dX0_count_148 ?_
      obtain ⟨v30, e_v30, h⟩ := bnd h
      obtain ⟨hc_v30, e_v30⟩ := hp_on_of e_v30
      refine G_callVv F (As := [.inl (v29 - (1 : Int32))]) (st := []) (metX0_minuteOf X e_v30) hc_v30 rfl rfl (lw_V q870 q872 qs20 q102 q873) hdfX0_minuteOf ⟨by omega, by decide⟩ rfl (Nat.le_of_ble_eq_true rfl) ⟨by omega, by omega⟩ dX0_count_149 ?_
      cases h
      exact G_iret F rfl (Nat.le_refl _) (Nat.le_refl _) rfl dX0_count_152
    · have h := itt c28 h
      refine G_bipush F (v := (-2 : Int32)) dX0_count_137 (by decide) ?_
      refine G_goto F (tgt := 152) dX0_count_139 (by decide) ?_
      cases h
      exact G_iret F rfl (Nat.le_refl _) (Nat.le_refl _) rfl dX0_count_152
  have h := itf c26 h
  refine G_tabDef F (tgt := 153) dX0_count_1 [(0 : Int32), (1 : Int32), (2 : Int32), (3 : Int32), (4 : Int32), (5 : Int32), (6 : Int32), (7 : Int32), (8 : Int32), (9 : Int32), (10 : Int32), (11 : Int32)] (by decide) (by decide) (List.forall_mem_cons.mpr ⟨c1, List.forall_mem_cons.mpr ⟨c4, List.forall_mem_cons.mpr ⟨c6, List.forall_mem_cons.mpr ⟨c8, List.forall_mem_cons.mpr ⟨c10, List.forall_mem_cons.mpr ⟨c12, List.forall_mem_cons.mpr ⟨c15, List.forall_mem_cons.mpr ⟨c17, List.forall_mem_cons.mpr ⟨c20, List.forall_mem_cons.mpr ⟨c22, List.forall_mem_cons.mpr ⟨c24, List.forall_mem_cons.mpr ⟨c26, fa_nil⟩⟩⟩⟩⟩⟩⟩⟩⟩⟩⟩⟩) (by decide) ?_
  refine G_iconst F (v := (-1 : Int32)) dX0_count_153 (by decide) ?_
  cases h
  exact G_iret F rfl (Nat.le_refl _) (Nat.le_refl _) rfl dX0_count_154

theorem metX7_init (X : Gx) {m : Hp} {nx : Nat} {a0 : Nat} {m_ : Hp} {dc ds : Nat} (h : fX7_init m nx a0 = some (m_, dc, ds)) : Con X (2) yX7_init cX7_init 1 ((none : Option FieldType)) [.inr (some a0)] m nx none m_ dc ds := by
  refine Con.of (own := RX7) (nm := "<init>") (L := [some (.inr (some a0))]) (by decide +kernel) rfl rfl (Nat.le_of_ble_eq_true rfl) (ent_of 0 rfl) ?_
  intro cx F
  refine G_aload_n F dX7_init_0 rfl ?_
  refine G_objInit F q1223 q134 q135 (by omega) (Nat.le_of_ble_eq_true rfl) dX7_init_1 ?_
  refine G_aload_n F dX7_init_4 rfl ?_
  refine G_bipush F (v := (26 : Int32)) dX7_init_5 (by decide) ?_
  obtain ⟨m1, e_m1, h⟩ := bnd h
  obtain ⟨D2, C2, h, hD2, hC2⟩ := andA_of h; try dsimp only at hD2 hC2
  refine G_newac F (t := 0) (N := 26) q180 rfl (by decide) (by decide) (by decide) (by decide) (by omega) (by omega) dX7_init_7 e_m1 ?_
  obtain ⟨m3, e_m3, h⟩ := bnd h
  refine G_putVF F okX7 (f := 0) (by decide) q1224 rfl rfl rfl dX7_init_9 (vfit_arr _ _) e_m3 ?_
  refine G_aload_n F dX7_init_12 rfl ?_
  refine G_bipush F (v := (26 : Int32)) dX7_init_13 (by decide) ?_
  obtain ⟨m4, e_m4, h⟩ := bnd h
  obtain ⟨D5, C5, h, hD5, hC5⟩ := andA_of h; try dsimp only at hD5 hC5
  refine G_newac F (t := 0) (N := 26) q180 rfl (by decide) (by decide) (by decide) (by decide) (by omega) (by omega) dX7_init_15 e_m4 ?_
  obtain ⟨m6, e_m6, h⟩ := bnd h
  refine G_putVF F okX7 (f := 1) (by decide) q1225 rfl rfl rfl dX7_init_17 (vfit_arr _ _) e_m6 ?_
  refine G_aload_n F dX7_init_20 rfl ?_
  refine G_bipush F (v := (26 : Int32)) dX7_init_21 (by decide) ?_
  obtain ⟨m7, e_m7, h⟩ := bnd h
  obtain ⟨D8, C8, h, hD8, hC8⟩ := andA_of h; try dsimp only at hD8 hC8
  refine G_newac F (t := 0) (N := 26) q180 rfl (by decide) (by decide) (by decide) (by decide) (by omega) (by omega) dX7_init_23 e_m7 ?_
  obtain ⟨m9, e_m9, h⟩ := bnd h
  refine G_putVF F okX7 (f := 2) (by decide) q1226 rfl rfl rfl dX7_init_25 (vfit_arr _ _) e_m9 ?_
  refine G_aload_n F dX7_init_28 rfl ?_
  refine G_bipush F (v := (12 : Int32)) dX7_init_29 (by decide) ?_
  obtain ⟨m10, e_m10, h⟩ := bnd h
  obtain ⟨D11, C11, h, hD11, hC11⟩ := andA_of h; try dsimp only at hD11 hC11
  refine G_newac F (t := 0) (N := 12) q180 rfl (by decide) (by decide) (by decide) (by decide) (by omega) (by omega) dX7_init_31 e_m10 ?_
  obtain ⟨m12, e_m12, h⟩ := bnd h
  refine G_putVF F okX7 (f := 3) (by decide) q1227 rfl rfl rfl dX7_init_33 (vfit_arr _ _) e_m12 ?_
  refine G_aload_n F dX7_init_36 rfl ?_
  refine G_bipush F (v := (12 : Int32)) dX7_init_37 (by decide) ?_
  obtain ⟨m13, e_m13, h⟩ := bnd h
  obtain ⟨D14, C14, h, hD14, hC14⟩ := andA_of h; try dsimp only at hD14 hC14
  refine G_newac F (t := 0) (N := 12) q180 rfl (by decide) (by decide) (by decide) (by decide) (by omega) (by omega) dX7_init_39 e_m13 ?_
  obtain ⟨m15, e_m15, h⟩ := bnd h
  refine G_putVF F okX7 (f := 4) (by decide) q1228 rfl rfl rfl dX7_init_41 (vfit_arr _ _) e_m15 ?_
  refine G_aload_n F dX7_init_44 rfl ?_
  refine G_bipush F (v := (12 : Int32)) dX7_init_45 (by decide) ?_
  obtain ⟨m16, e_m16, h⟩ := bnd h
  obtain ⟨D17, C17, h, hD17, hC17⟩ := andA_of h; try dsimp only at hD17 hC17
  refine G_newac F (t := 0) (N := 12) q180 rfl (by decide) (by decide) (by decide) (by decide) (by omega) (by omega) dX7_init_47 e_m16 ?_
  obtain ⟨m18, e_m18, h⟩ := bnd h
  refine G_putVF F okX7 (f := 5) (by decide) q1229 rfl rfl rfl dX7_init_49 (vfit_arr _ _) e_m18 ?_
  refine G_aload_n F dX7_init_52 rfl ?_
  refine G_bipush F (v := (48 : Int32)) dX7_init_53 (by decide) ?_
  obtain ⟨m19, e_m19, h⟩ := bnd h
  obtain ⟨D20, C20, h, hD20, hC20⟩ := andA_of h; try dsimp only at hD20 hC20
  refine G_newac F (t := 0) (N := 48) q180 rfl (by decide) (by decide) (by decide) (by decide) (by omega) (by omega) dX7_init_55 e_m19 ?_
  obtain ⟨m21, e_m21, h⟩ := bnd h
  refine G_putVF F okX7 (f := 6) (by decide) q1230 rfl rfl rfl dX7_init_57 (vfit_arr _ _) e_m21 ?_
  refine G_aload_n F dX7_init_60 rfl ?_
  refine G_sipush F (v := (384 : Int32)) dX7_init_61 (by decide) ?_
  obtain ⟨m22, e_m22, h⟩ := bnd h
  obtain ⟨D23, C23, h, hD23, hC23⟩ := andA_of h; try dsimp only at hD23 hC23
  refine G_newac F (t := 0) (N := 384) q180 rfl (by decide) (by decide) (by decide) (by decide) (by omega) (by omega) dX7_init_64 e_m22 ?_
  obtain ⟨m24, e_m24, h⟩ := bnd h
  refine G_putVF F okX7 (f := 7) (by decide) q1231 rfl rfl rfl dX7_init_66 (vfit_arr _ _) e_m24 ?_
  refine G_aload_n F dX7_init_69 rfl ?_
  refine G_sipush F (v := (384 : Int32)) dX7_init_70 (by decide) ?_
  obtain ⟨m25, e_m25, h⟩ := bnd h
  obtain ⟨D26, C26, h, hD26, hC26⟩ := andA_of h; try dsimp only at hD26 hC26
  refine G_newac F (t := 0) (N := 384) q180 rfl (by decide) (by decide) (by decide) (by decide) (by omega) (by omega) dX7_init_73 e_m25 ?_
  obtain ⟨m27, e_m27, h⟩ := bnd h
  refine G_putVF F okX7 (f := 8) (by decide) q1232 rfl rfl rfl dX7_init_75 (vfit_arr _ _) e_m27 ?_
  refine G_aload_n F dX7_init_78 rfl ?_
  refine G_bipush F (v := (48 : Int32)) dX7_init_79 (by decide) ?_
  obtain ⟨m28, e_m28, h⟩ := bnd h
  obtain ⟨D29, C29, h, hD29, hC29⟩ := andA_of h; try dsimp only at hD29 hC29
  refine G_newac F (t := 0) (N := 48) q180 rfl (by decide) (by decide) (by decide) (by decide) (by omega) (by omega) dX7_init_81 e_m28 ?_
  obtain ⟨m30, e_m30, h⟩ := bnd h
  refine G_putVF F okX7 (f := 9) (by decide) q1233 rfl rfl rfl dX7_init_83 (vfit_arr _ _) e_m30 ?_
  refine G_aload_n F dX7_init_86 rfl ?_
  refine G_sipush F (v := (384 : Int32)) dX7_init_87 (by decide) ?_
  obtain ⟨m31, e_m31, h⟩ := bnd h
  obtain ⟨D32, C32, h, hD32, hC32⟩ := andA_of h; try dsimp only at hD32 hC32
  refine G_newac F (t := 0) (N := 384) q180 rfl (by decide) (by decide) (by decide) (by decide) (by omega) (by omega) dX7_init_90 e_m31 ?_
  obtain ⟨m33, e_m33, h⟩ := bnd h
  refine G_putVF F okX7 (f := 10) (by decide) q1234 rfl rfl rfl dX7_init_92 (vfit_arr _ _) e_m33 ?_
  refine G_aload_n F dX7_init_95 rfl ?_
  refine G_bipush F (v := (12 : Int32)) dX7_init_96 (by decide) ?_
  obtain ⟨m34, e_m34, h⟩ := bnd h
  obtain ⟨D35, C35, h, hD35, hC35⟩ := andA_of h; try dsimp only at hD35 hC35
  refine G_newac F (t := 2) (N := 12) q325 rfl (by decide) (by decide) (by decide) (by decide) (by omega) (by omega) dX7_init_98 e_m34 ?_
  obtain ⟨m36, e_m36, h⟩ := bnd h
  refine G_putVF F okX7 (f := 11) (by decide) q1235 rfl rfl rfl dX7_init_100 (vfit_arr _ _) e_m36 ?_
  refine G_aload_n F dX7_init_103 rfl ?_
  refine G_bipush F (v := (48 : Int32)) dX7_init_104 (by decide) ?_
  obtain ⟨m37, e_m37, h⟩ := bnd h
  obtain ⟨D38, C38, h, hD38, hC38⟩ := andA_of h; try dsimp only at hD38 hC38
  refine G_newac F (t := 2) (N := 48) q325 rfl (by decide) (by decide) (by decide) (by decide) (by omega) (by omega) dX7_init_106 e_m37 ?_
  obtain ⟨m39, e_m39, h⟩ := bnd h
  refine G_putVF F okX7 (f := 12) (by decide) q1236 rfl rfl rfl dX7_init_108 (vfit_arr _ _) e_m39 ?_
  refine G_aload_n F dX7_init_111 rfl ?_
  refine G_sipush F (v := (260 : Int32)) dX7_init_112 (by decide) ?_
  obtain ⟨m40, e_m40, h⟩ := bnd h
  obtain ⟨D41, C41, h, hD41, hC41⟩ := andA_of h; try dsimp only at hD41 hC41
  refine G_newac F (t := 1) (N := 260) q287 rfl (by decide) (by decide) (by decide) (by decide) (by omega) (by omega) dX7_init_115 e_m40 ?_
  obtain ⟨m42, e_m42, h⟩ := bnd h
  refine G_putVF F okX7 (f := 16) (by decide) q1240 rfl rfl rfl dX7_init_117 (vfit_arr _ _) e_m42 ?_
  refine G_aload_n F dX7_init_120 rfl ?_
  refine G_sipush F (v := (260 : Int32)) dX7_init_121 (by decide) ?_
  obtain ⟨m43, e_m43, h⟩ := bnd h
  obtain ⟨D44, C44, h, hD44, hC44⟩ := andA_of h; try dsimp only at hD44 hC44
  refine G_newac F (t := 0) (N := 260) q180 rfl (by decide) (by decide) (by decide) (by decide) (by omega) (by omega) dX7_init_124 e_m43 ?_
  obtain ⟨m45, e_m45, h⟩ := bnd h
  refine G_putVF F okX7 (f := 27) (by decide) q1251 rfl rfl rfl dX7_init_126 (vfit_arr _ _) e_m45 ?_
  refine G_aload_n F dX7_init_129 rfl ?_
  refine G_sipush F (v := (260 : Int32)) dX7_init_130 (by decide) ?_
  obtain ⟨m46, e_m46, h⟩ := bnd h
  obtain ⟨D47, C47, h, hD47, hC47⟩ := andA_of h; try dsimp only at hD47 hC47
  refine G_newac F (t := 0) (N := 260) q180 rfl (by decide) (by decide) (by decide) (by decide) (by omega) (by omega) dX7_init_133 e_m46 ?_
  obtain ⟨m48, e_m48, h⟩ := bnd h
  refine G_putVF F okX7 (f := 28) (by decide) q1252 rfl rfl rfl dX7_init_135 (vfit_arr _ _) e_m48 ?_
  refine G_aload_n F dX7_init_138 rfl ?_
  refine G_bipush F (v := (16 : Int32)) dX7_init_139 (by decide) ?_
  obtain ⟨m49, e_m49, h⟩ := bnd h
  obtain ⟨D50, C50, h, hD50, hC50⟩ := andA_of h; try dsimp only at hD50 hC50
  refine G_newac F (t := 0) (N := 16) q180 rfl (by decide) (by decide) (by decide) (by decide) (by omega) (by omega) dX7_init_141 e_m49 ?_
  obtain ⟨m51, e_m51, h⟩ := bnd h
  refine G_putVF F okX7 (f := 29) (by decide) q1253 rfl rfl rfl dX7_init_143 (vfit_arr _ _) e_m51 ?_
  refine G_aload_n F dX7_init_146 rfl ?_
  refine G_bipush F (v := (16 : Int32)) dX7_init_147 (by decide) ?_
  obtain ⟨m52, e_m52, h⟩ := bnd h
  obtain ⟨D53, C53, h, hD53, hC53⟩ := andA_of h; try dsimp only at hD53 hC53
  refine G_newac F (t := 0) (N := 16) q180 rfl (by decide) (by decide) (by decide) (by decide) (by omega) (by omega) dX7_init_149 e_m52 ?_
  obtain ⟨m54, e_m54, h⟩ := bnd h
  refine G_putVF F okX7 (f := 30) (by decide) q1254 rfl rfl rfl dX7_init_151 (vfit_arr _ _) e_m54 ?_
  refine G_aload_n F dX7_init_154 rfl ?_
  refine G_bipush F (v := (16 : Int32)) dX7_init_155 (by decide) ?_
  obtain ⟨m55, e_m55, h⟩ := bnd h
  obtain ⟨D56, C56, h, hD56, hC56⟩ := andA_of h; try dsimp only at hD56 hC56
  refine G_newac F (t := 0) (N := 16) q180 rfl (by decide) (by decide) (by decide) (by decide) (by omega) (by omega) dX7_init_157 e_m55 ?_
  obtain ⟨m57, e_m57, h⟩ := bnd h
  refine G_putVF F okX7 (f := 31) (by decide) q1255 rfl rfl rfl dX7_init_159 (vfit_arr _ _) e_m57 ?_
  refine G_aload_n F dX7_init_162 rfl ?_
  refine G_bipush F (v := (16 : Int32)) dX7_init_163 (by decide) ?_
  obtain ⟨m58, e_m58, h⟩ := bnd h
  obtain ⟨D59, C59, h, hD59, hC59⟩ := andA_of h; try dsimp only at hD59 hC59
  refine G_newac F (t := 0) (N := 16) q180 rfl (by decide) (by decide) (by decide) (by decide) (by omega) (by omega) dX7_init_165 e_m58 ?_
  obtain ⟨m60, e_m60, h⟩ := bnd h
  refine G_putVF F okX7 (f := 32) (by decide) q1256 rfl rfl rfl dX7_init_167 (vfit_arr _ _) e_m60 ?_
  refine G_aload_n F dX7_init_170 rfl ?_
  refine G_sipush F (v := (260 : Int32)) dX7_init_171 (by decide) ?_
  obtain ⟨m61, e_m61, h⟩ := bnd h
  obtain ⟨D62, C62, h, hD62, hC62⟩ := andA_of h; try dsimp only at hD62 hC62
  refine G_newac F (t := 0) (N := 260) q180 rfl (by decide) (by decide) (by decide) (by decide) (by omega) (by omega) dX7_init_174 e_m61 ?_
  obtain ⟨m63, e_m63, h⟩ := bnd h
  refine G_putVF F okX7 (f := 33) (by decide) q1257 rfl rfl rfl dX7_init_176 (vfit_arr _ _) e_m63 ?_
  refine G_aload_n F dX7_init_179 rfl ?_
  refine G_bipush F (v := (16 : Int32)) dX7_init_180 (by decide) ?_
  obtain ⟨m64, e_m64, h⟩ := bnd h
  obtain ⟨D65, C65, h, hD65, hC65⟩ := andA_of h; try dsimp only at hD65 hC65
  refine G_newac F (t := 0) (N := 16) q180 rfl (by decide) (by decide) (by decide) (by decide) (by omega) (by omega) dX7_init_182 e_m64 ?_
  obtain ⟨m66, e_m66, h⟩ := bnd h
  refine G_putVF F okX7 (f := 34) (by decide) q1258 rfl rfl rfl dX7_init_184 (vfit_arr _ _) e_m66 ?_
  refine G_aload_n F dX7_init_187 rfl ?_
  refine G_bipush F (v := (16 : Int32)) dX7_init_188 (by decide) ?_
  obtain ⟨m67, e_m67, h⟩ := bnd h
  obtain ⟨D68, C68, h, hD68, hC68⟩ := andA_of h; try dsimp only at hD68 hC68
  refine G_newac F (t := 0) (N := 16) q180 rfl (by decide) (by decide) (by decide) (by decide) (by omega) (by omega) dX7_init_190 e_m67 ?_
  obtain ⟨m69, e_m69, h⟩ := bnd h
  refine G_putVF F okX7 (f := 35) (by decide) q1259 rfl rfl rfl dX7_init_192 (vfit_arr _ _) e_m69 ?_
  refine G_aload_n F dX7_init_195 rfl ?_
  refine G_bipush F (v := (16 : Int32)) dX7_init_196 (by decide) ?_
  obtain ⟨m70, e_m70, h⟩ := bnd h
  obtain ⟨D71, C71, h, hD71, hC71⟩ := andA_of h; try dsimp only at hD71 hC71
  refine G_newac F (t := 0) (N := 16) q180 rfl (by decide) (by decide) (by decide) (by decide) (by omega) (by omega) dX7_init_198 e_m70 ?_
  obtain ⟨m72, e_m72, h⟩ := bnd h
  refine G_putVF F okX7 (f := 36) (by decide) q1260 rfl rfl rfl dX7_init_200 (vfit_arr _ _) e_m72 ?_
  refine G_aload_n F dX7_init_203 rfl ?_
  refine G_bipush F (v := (16 : Int32)) dX7_init_204 (by decide) ?_
  obtain ⟨m73, e_m73, h⟩ := bnd h
  obtain ⟨D74, C74, h, hD74, hC74⟩ := andA_of h; try dsimp only at hD74 hC74
  refine G_newac F (t := 0) (N := 16) q180 rfl (by decide) (by decide) (by decide) (by decide) (by omega) (by omega) dX7_init_206 e_m73 ?_
  obtain ⟨m75, e_m75, h⟩ := bnd h
  refine G_putVF F okX7 (f := 37) (by decide) q1261 rfl rfl rfl dX7_init_208 (vfit_arr _ _) e_m75 ?_
  refine G_aload_n F dX7_init_211 rfl ?_
  refine G_sipush F (v := (260 : Int32)) dX7_init_212 (by decide) ?_
  obtain ⟨m76, e_m76, h⟩ := bnd h
  obtain ⟨D77, C77, h, hD77, hC77⟩ := andA_of h; try dsimp only at hD77 hC77
  refine G_newac F (t := 0) (N := 260) q180 rfl (by decide) (by decide) (by decide) (by decide) (by omega) (by omega) dX7_init_215 e_m76 ?_
  obtain ⟨m78, e_m78, h⟩ := bnd h
  refine G_putVF F okX7 (f := 38) (by decide) q1262 rfl rfl rfl dX7_init_217 (vfit_arr _ _) e_m78 ?_
  refine G_aload_n F dX7_init_220 rfl ?_
  refine G_bipush F (v := (9 : Int32)) dX7_init_221 (by decide) ?_
  obtain ⟨m79, e_m79, h⟩ := bnd h
  obtain ⟨D80, C80, h, hD80, hC80⟩ := andA_of h; try dsimp only at hD80 hC80
  refine G_newac F (t := 0) (N := 9) q180 rfl (by decide) (by decide) (by decide) (by decide) (by omega) (by omega) dX7_init_223 e_m79 ?_
  obtain ⟨m81, e_m81, h⟩ := bnd h
  refine G_putVF F okX7 (f := 39) (by decide) q1263 rfl rfl rfl dX7_init_225 (vfit_arr _ _) e_m81 ?_
  refine G_aload_n F dX7_init_228 rfl ?_
  refine G_bipush F (v := (48 : Int32)) dX7_init_229 (by decide) ?_
  obtain ⟨m82, e_m82, h⟩ := bnd h
  obtain ⟨D83, C83, h, hD83, hC83⟩ := andA_of h; try dsimp only at hD83 hC83
  refine G_newac F (t := 0) (N := 48) q180 rfl (by decide) (by decide) (by decide) (by decide) (by omega) (by omega) dX7_init_231 e_m82 ?_
  obtain ⟨m84, e_m84, h⟩ := bnd h
  refine G_putVF F okX7 (f := 40) (by decide) q1264 rfl rfl rfl dX7_init_233 (vfit_arr _ _) e_m84 ?_
  refine G_aload_n F dX7_init_236 rfl ?_
  refine G_sipush F (v := (384 : Int32)) dX7_init_237 (by decide) ?_
  obtain ⟨m85, e_m85, h⟩ := bnd h
  obtain ⟨D86, C86, h, hD86, hC86⟩ := andA_of h; try dsimp only at hD86 hC86
  refine G_newac F (t := 0) (N := 384) q180 rfl (by decide) (by decide) (by decide) (by decide) (by omega) (by omega) dX7_init_240 e_m85 ?_
  obtain ⟨m87, e_m87, h⟩ := bnd h
  refine G_putVF F okX7 (f := 41) (by decide) q1265 rfl rfl rfl dX7_init_242 (vfit_arr _ _) e_m87 ?_
  refine G_aload_n F dX7_init_245 rfl ?_
  refine G_sipush F (v := (384 : Int32)) dX7_init_246 (by decide) ?_
  obtain ⟨m88, e_m88, h⟩ := bnd h
  obtain ⟨D89, C89, h, hD89, hC89⟩ := andA_of h; try dsimp only at hD89 hC89
  refine G_newac F (t := 0) (N := 384) q180 rfl (by decide) (by decide) (by decide) (by decide) (by omega) (by omega) dX7_init_249 e_m88 ?_
  obtain ⟨m90, e_m90, h⟩ := bnd h
  refine G_putVF F okX7 (f := 42) (by decide) q1266 rfl rfl rfl dX7_init_251 (vfit_arr _ _) e_m90 ?_
  refine G_aload_n F dX7_init_254 rfl ?_
  refine G_bipush F (v := (8 : Int32)) dX7_init_255 (by decide) ?_
  obtain ⟨m91, e_m91, h⟩ := bnd h
  obtain ⟨D92, C92, h, hD92, hC92⟩ := andA_of h; try dsimp only at hD92 hC92
  refine G_newac F (t := 0) (N := 8) q180 rfl (by decide) (by decide) (by decide) (by decide) (by omega) (by omega) dX7_init_257 e_m91 ?_
  obtain ⟨m93, e_m93, h⟩ := bnd h
  refine G_putVF F okX7 (f := 45) (by decide) q1269 rfl rfl rfl dX7_init_259 (vfit_arr _ _) e_m93 ?_
  refine G_aload_n F dX7_init_262 rfl ?_
  refine G_bipush F (v := (8 : Int32)) dX7_init_263 (by decide) ?_
  obtain ⟨m94, e_m94, h⟩ := bnd h
  obtain ⟨D95, C95, h, hD95, hC95⟩ := andA_of h; try dsimp only at hD95 hC95
  refine G_newac F (t := 0) (N := 8) q180 rfl (by decide) (by decide) (by decide) (by decide) (by omega) (by omega) dX7_init_265 e_m94 ?_
  obtain ⟨m96, e_m96, h⟩ := bnd h
  refine G_putVF F okX7 (f := 46) (by decide) q1270 rfl rfl rfl dX7_init_267 (vfit_arr _ _) e_m96 ?_
  refine G_aload_n F dX7_init_270 rfl ?_
  refine G_bipush F (v := (48 : Int32)) dX7_init_271 (by decide) ?_
  obtain ⟨m97, e_m97, h⟩ := bnd h
  obtain ⟨D98, C98, h, hD98, hC98⟩ := andA_of h; try dsimp only at hD98 hC98
  refine G_newac F (t := 0) (N := 48) q180 rfl (by decide) (by decide) (by decide) (by decide) (by omega) (by omega) dX7_init_273 e_m97 ?_
  obtain ⟨m99, e_m99, h⟩ := bnd h
  refine G_putVF F okX7 (f := 47) (by decide) q1271 rfl rfl rfl dX7_init_275 (vfit_arr _ _) e_m99 ?_
  refine G_aload_n F dX7_init_278 rfl ?_
  refine G_bipush F (v := (48 : Int32)) dX7_init_279 (by decide) ?_
  obtain ⟨m100, e_m100, h⟩ := bnd h
  obtain ⟨D101, C101, h, hD101, hC101⟩ := andA_of h; try dsimp only at hD101 hC101
  refine G_newac F (t := 2) (N := 48) q325 rfl (by decide) (by decide) (by decide) (by decide) (by omega) (by omega) dX7_init_281 e_m100 ?_
  obtain ⟨m102, e_m102, h⟩ := bnd h
  refine G_putVF F okX7 (f := 48) (by decide) q1272 rfl rfl rfl dX7_init_283 (vfit_arr _ _) e_m102 ?_
  refine G_aload_n F dX7_init_286 rfl ?_
  refine G_bipush F (v := (12 : Int32)) dX7_init_287 (by decide) ?_
  obtain ⟨m103, e_m103, h⟩ := bnd h
  obtain ⟨D104, C104, h, hD104, hC104⟩ := andA_of h; try dsimp only at hD104 hC104
  refine G_newac F (t := 0) (N := 12) q180 rfl (by decide) (by decide) (by decide) (by decide) (by omega) (by omega) dX7_init_289 e_m103 ?_
  obtain ⟨m105, e_m105, h⟩ := bnd h
  refine G_putVF F okX7 (f := 50) (by decide) q1274 rfl rfl rfl dX7_init_291 (vfit_arr _ _) e_m105 ?_
  refine G_aload_n F dX7_init_294 rfl ?_
  refine G_bipush F (v := (48 : Int32)) dX7_init_295 (by decide) ?_
  obtain ⟨m106, e_m106, h⟩ := bnd h
  obtain ⟨D107, C107, h, hD107, hC107⟩ := andA_of h; try dsimp only at hD107 hC107
  refine G_newac F (t := 0) (N := 48) q180 rfl (by decide) (by decide) (by decide) (by decide) (by omega) (by omega) dX7_init_297 e_m106 ?_
  obtain ⟨m108, e_m108, h⟩ := bnd h
  refine G_putVF F okX7 (f := 51) (by decide) q1275 rfl rfl rfl dX7_init_299 (vfit_arr _ _) e_m108 ?_
  refine G_aload_n F dX7_init_302 rfl ?_
  refine G_bipush F (v := (10 : Int32)) dX7_init_303 (by decide) ?_
  obtain ⟨m109, e_m109, h⟩ := bnd h
  obtain ⟨D110, C110, h, hD110, hC110⟩ := andA_of h; try dsimp only at hD110 hC110
  refine G_newac F (t := 0) (N := 10) q180 rfl (by decide) (by decide) (by decide) (by decide) (by omega) (by omega) dX7_init_305 e_m109 ?_
  obtain ⟨m111, e_m111, h⟩ := bnd h
  refine G_putVF F okX7 (f := 55) (by decide) q1279 rfl rfl rfl dX7_init_307 (vfit_arr _ _) e_m111 ?_
  refine G_aload_n F dX7_init_310 rfl ?_
  refine G_bipush F (v := (10 : Int32)) dX7_init_311 (by decide) ?_
  obtain ⟨m112, e_m112, h⟩ := bnd h
  obtain ⟨D113, C113, h, hD113, hC113⟩ := andA_of h; try dsimp only at hD113 hC113
  refine G_newac F (t := 0) (N := 10) q180 rfl (by decide) (by decide) (by decide) (by decide) (by omega) (by omega) dX7_init_313 e_m112 ?_
  obtain ⟨m114, e_m114, h⟩ := bnd h
  refine G_putVF F okX7 (f := 56) (by decide) q1280 rfl rfl rfl dX7_init_315 (vfit_arr _ _) e_m114 ?_
  refine G_aload_n F dX7_init_318 rfl ?_
  refine G_bipush F (v := (48 : Int32)) dX7_init_319 (by decide) ?_
  obtain ⟨m115, e_m115, h⟩ := bnd h
  obtain ⟨D116, C116, h, hD116, hC116⟩ := andA_of h; try dsimp only at hD116 hC116
  refine G_newac F (t := 0) (N := 48) q180 rfl (by decide) (by decide) (by decide) (by decide) (by omega) (by omega) dX7_init_321 e_m115 ?_
  obtain ⟨m117, e_m117, h⟩ := bnd h
  refine G_putVF F okX7 (f := 57) (by decide) q1281 rfl rfl rfl dX7_init_323 (vfit_arr _ _) e_m117 ?_
  refine G_aload_n F dX7_init_326 rfl ?_
  refine G_bipush F (v := (48 : Int32)) dX7_init_327 (by decide) ?_
  obtain ⟨m118, e_m118, h⟩ := bnd h
  obtain ⟨D119, C119, h, hD119, hC119⟩ := andA_of h; try dsimp only at hD119 hC119
  refine G_newac F (t := 0) (N := 48) q180 rfl (by decide) (by decide) (by decide) (by decide) (by omega) (by omega) dX7_init_329 e_m118 ?_
  obtain ⟨m120, e_m120, h⟩ := bnd h
  refine G_putVF F okX7 (f := 58) (by decide) q1282 rfl rfl rfl dX7_init_331 (vfit_arr _ _) e_m120 ?_
  refine G_aload_n F dX7_init_334 rfl ?_
  refine G_sipush F (v := (1440 : Int32)) dX7_init_335 (by decide) ?_
  obtain ⟨m121, e_m121, h⟩ := bnd h
  obtain ⟨D122, C122, h, hD122, hC122⟩ := andA_of h; try dsimp only at hD122 hC122
  refine G_newac F (t := 2) (N := 1440) q325 rfl (by decide) (by decide) (by decide) (by decide) (by omega) (by omega) dX7_init_338 e_m121 ?_
  obtain ⟨m123, e_m123, h⟩ := bnd h
  refine G_putVF F okX7 (f := 59) (by decide) q1283 rfl rfl rfl dX7_init_340 (vfit_arr _ _) e_m123 ?_
  refine G_aload_n F dX7_init_343 rfl ?_
  refine G_bipush F (v := (48 : Int32)) dX7_init_344 (by decide) ?_
  obtain ⟨m124, e_m124, h⟩ := bnd h
  obtain ⟨D125, C125, h, hD125, hC125⟩ := andA_of h; try dsimp only at hD125 hC125
  refine G_newac F (t := 0) (N := 48) q180 rfl (by decide) (by decide) (by decide) (by decide) (by omega) (by omega) dX7_init_346 e_m124 ?_
  obtain ⟨m126, e_m126, h⟩ := bnd h
  refine G_putVF F okX7 (f := 60) (by decide) q1284 rfl rfl rfl dX7_init_348 (vfit_arr _ _) e_m126 ?_
  refine G_aload_n F dX7_init_351 rfl ?_
  refine G_bipush F (v := (48 : Int32)) dX7_init_352 (by decide) ?_
  obtain ⟨m127, e_m127, h⟩ := bnd h
  obtain ⟨D128, C128, h, hD128, hC128⟩ := andA_of h; try dsimp only at hD128 hC128
  refine G_newac F (t := 0) (N := 48) q180 rfl (by decide) (by decide) (by decide) (by decide) (by omega) (by omega) dX7_init_354 e_m127 ?_
  obtain ⟨m129, e_m129, h⟩ := bnd h
  refine G_putVF F okX7 (f := 61) (by decide) q1285 rfl rfl rfl dX7_init_356 (vfit_arr _ _) e_m129 ?_
  refine G_aload_n F dX7_init_359 rfl ?_
  refine G_bipush F (v := (48 : Int32)) dX7_init_360 (by decide) ?_
  obtain ⟨m130, e_m130, h⟩ := bnd h
  obtain ⟨D131, C131, h, hD131, hC131⟩ := andA_of h; try dsimp only at hD131 hC131
  refine G_newac F (t := 0) (N := 48) q180 rfl (by decide) (by decide) (by decide) (by decide) (by omega) (by omega) dX7_init_362 e_m130 ?_
  obtain ⟨m132, e_m132, h⟩ := bnd h
  refine G_putVF F okX7 (f := 62) (by decide) q1286 rfl rfl rfl dX7_init_364 (vfit_arr _ _) e_m132 ?_
  refine G_aload_n F dX7_init_367 rfl ?_
  refine G_sipush F (v := (384 : Int32)) dX7_init_368 (by decide) ?_
  obtain ⟨m133, e_m133, h⟩ := bnd h
  obtain ⟨D134, C134, h, hD134, hC134⟩ := andA_of h; try dsimp only at hD134 hC134
  refine G_newac F (t := 0) (N := 384) q180 rfl (by decide) (by decide) (by decide) (by decide) (by omega) (by omega) dX7_init_371 e_m133 ?_
  obtain ⟨m135, e_m135, h⟩ := bnd h
  refine G_putVF F okX7 (f := 63) (by decide) q1287 rfl rfl rfl dX7_init_373 (vfit_arr _ _) e_m135 ?_
  refine G_aload_n F dX7_init_376 rfl ?_
  refine G_bipush F (v := (61 : Int32)) dX7_init_377 (by decide) ?_
  obtain ⟨m136, e_m136, h⟩ := bnd h
  obtain ⟨D137, C137, h, hD137, hC137⟩ := andA_of h; try dsimp only at hD137 hC137
  refine G_newac F (t := 0) (N := 61) q180 rfl (by decide) (by decide) (by decide) (by decide) (by omega) (by omega) dX7_init_379 e_m136 ?_
  obtain ⟨m138, e_m138, h⟩ := bnd h
  refine G_putVF F okX7 (f := 64) (by decide) q1288 rfl rfl rfl dX7_init_381 (vfit_arr _ _) e_m138 ?_
  refine G_aload_n F dX7_init_384 rfl ?_
  obtain ⟨v139, e_v139, h⟩ := bnd h
  refine G_getR F okX7 (f := 0) (by decide) q1224 rfl dX7_init_385 e_v139 ?_
  refine G_bipush F (v := (25 : Int32)) dX7_init_388 (by decide) ?_
  refine G_iconst F (v := (1 : Int32)) dX7_init_390 (by decide) ?_
  obtain ⟨m140, e_m140, h⟩ := bnd h
  refine G_iast F dX7_init_391 e_m140 ?_
  refine G_aload_n F dX7_init_392 rfl ?_
  refine G_iconst F (v := (5 : Int32)) dX7_init_393 (by decide) ?_
  obtain ⟨m141, e_m141, h⟩ := bnd h
  refine G_putV F okX7 (f := 13) (by decide) q1237 rfl rfl dX7_init_394 (vfit_int _) e_m141 ?_
  cases h
  exact G_vret F rfl (by omega) (by omega) (by omega) dX7_init_397

theorem metX7_in (X : Gx) {m : Hp} {nx : Nat} {a0 : Int32} {a1 : Int32} {a2 : Int32} {rv : Int32} (h : fX7_in a0 a1 a2 = some rv) : Con X (1) yX7_in cX7_in 3 ((Option.some FieldType.boolean)) [.inl a0, .inl a1, .inl a2] m nx (some (.inl rv)) m 0 0 := by
  refine Con.of (own := RX7) (nm := "in") (L := [some (.inl a0), some (.inl a1), some (.inl a2)]) (by decide +kernel) rfl rfl (Nat.le_of_ble_eq_true rfl) (ent_of 0 rfl) ?_
  intro cx F
  refine G_iload_n F dX7_in_0 rfl ?_
  refine G_iload_n F dX7_in_1 rfl ?_
  refine G_icmp_lt F (tgt := 14) dX7_in_2 (by decide) (fun c1 => ?_) (fun c1 => ?_)
  · have h := itt c1 h
    refine G_iconst F (v := (0 : Int32)) dX7_in_14 (by decide) ?_
    cases h
    exact G_zret F rfl (Or.inl rfl) (Nat.le_refl _) (Nat.le_refl _) rfl dX7_in_15
  · have h := itf c1 h
    refine G_iload_n F dX7_in_5 rfl ?_
    refine G_iload_n F dX7_in_6 rfl ?_
    refine G_icmp_gt F (tgt := 14) dX7_in_7 (by decide) (fun c2 => ?_) (fun c2 => ?_)
    · have h := itt c2 h
      refine G_iconst F (v := (0 : Int32)) dX7_in_14 (by decide) ?_
      cases h
      exact G_zret F rfl (Or.inl rfl) (Nat.le_refl _) (Nat.le_refl _) rfl dX7_in_15
    · have h := itf c2 h
      refine G_iconst F (v := (1 : Int32)) dX7_in_10 (by decide) ?_
      refine G_goto F (tgt := 15) dX7_in_11 (by decide) ?_
      cases h
      exact G_zret F rfl (Or.inr rfl) (Nat.le_refl _) (Nat.le_refl _) rfl dX7_in_15

theorem metX7_min (X : Gx) {m : Hp} {nx : Nat} {a0 : Int32} {a1 : Int32} {rv : Int32} (h : fX7_min a0 a1 = some rv) : Con X (1) yX7_min cX7_min 2 ((Option.some FieldType.int)) [.inl a0, .inl a1] m nx (some (.inl rv)) m 0 0 := by
  refine Con.of (own := RX7) (nm := "min") (L := [some (.inl a0), some (.inl a1)]) (by decide +kernel) rfl rfl (Nat.le_of_ble_eq_true rfl) (ent_of 0 rfl) ?_
  intro cx F
  refine G_iload_n F dX7_min_0 rfl ?_
  refine G_iload_n F dX7_min_1 rfl ?_
  refine G_icmp_ge F (tgt := 9) dX7_min_2 (by decide) (fun c1 => ?_) (fun c1 => ?_)
  · have h := itt c1 h
    refine G_iload_n F dX7_min_9 rfl ?_
    cases h
    exact G_iret F rfl (Nat.le_refl _) (Nat.le_refl _) rfl dX7_min_10
  · have h := itf c1 h
    refine G_iload_n F dX7_min_5 rfl ?_
    refine G_goto F (tgt := 10) dX7_min_6 (by decide) ?_
    cases h
    exact G_iret F rfl (Nat.le_refl _) (Nat.le_refl _) rfl dX7_min_10

theorem metX7_max (X : Gx) {m : Hp} {nx : Nat} {a0 : Int32} {a1 : Int32} {rv : Int32} (h : fX7_max a0 a1 = some rv) : Con X (1) yX7_max cX7_max 2 ((Option.some FieldType.int)) [.inl a0, .inl a1] m nx (some (.inl rv)) m 0 0 := by
  refine Con.of (own := RX7) (nm := "max") (L := [some (.inl a0), some (.inl a1)]) (by decide +kernel) rfl rfl (Nat.le_of_ble_eq_true rfl) (ent_of 0 rfl) ?_
  intro cx F
  refine G_iload_n F dX7_max_0 rfl ?_
  refine G_iload_n F dX7_max_1 rfl ?_
  refine G_icmp_le F (tgt := 9) dX7_max_2 (by decide) (fun c1 => ?_) (fun c1 => ?_)
  · have h := itt c1 h
    refine G_iload_n F dX7_max_9 rfl ?_
    cases h
    exact G_iret F rfl (Nat.le_refl _) (Nat.le_refl _) rfl dX7_max_10
  · have h := itf c1 h
    refine G_iload_n F dX7_max_5 rfl ?_
    refine G_goto F (tgt := 10) dX7_max_6 (by decide) ?_
    cases h
    exact G_iret F rfl (Nat.le_refl _) (Nat.le_refl _) rfl dX7_max_10

theorem metX7_has (X : Gx) {m : Hp} {nx : Nat} {a0 : Int32} {a1 : Int32} {rv : Int32} (h : fX7_has a0 a1 = some rv) : Con X (1) yX7_has cX7_has 2 ((Option.some FieldType.boolean)) [.inl a0, .inl a1] m nx (some (.inl rv)) m 0 0 := by
  refine Con.of (own := RX7) (nm := "has") (L := [some (.inl a0), some (.inl a1)]) (by decide +kernel) rfl rfl (Nat.le_of_ble_eq_true rfl) (ent_of 0 rfl) ?_
  intro cx F
  refine G_iload_n F dX7_has_0 rfl ?_
  refine G_iload_n F dX7_has_1 rfl ?_
  refine G_ishr F dX7_has_2 ?_
  refine G_iconst F (v := (1 : Int32)) dX7_has_3 (by decide) ?_
  refine G_iand F dX7_has_4 ?_
  refine G_iconst F (v := (1 : Int32)) dX7_has_5 (by decide) ?_
  refine G_icmp_ne F (tgt := 13) dX7_has_6 (by decide) (fun c1 => ?_) (fun c1 => ?_)
  · have h := itf c1 h
    refine G_iconst F (v := (0 : Int32)) dX7_has_13 (by decide) ?_
    cases h
    exact G_zret F rfl (Or.inl rfl) (Nat.le_refl _) (Nat.le_refl _) rfl dX7_has_14
  · have h := itt c1 h
    refine G_iconst F (v := (1 : Int32)) dX7_has_9 (by decide) ?_
    refine G_goto F (tgt := 14) dX7_has_10 (by decide) ?_
    cases h
    exact G_zret F rfl (Or.inr rfl) (Nat.le_refl _) (Nat.le_refl _) rfl dX7_has_14

theorem metX7_copies (X : Gx) {m : Hp} {nx : Nat} {a0 : Option Nat} {a1 : Option Nat} {m_ : Hp} (h : fX7_copies m a0 a1 = some m_) : Con X (1) yX7_copies cX7_copies 3 ((none : Option FieldType)) [.inr a0, .inr a1] m nx none m_ 0 0 := by
  refine Con.of (own := RX7) (nm := "copies") (L := [some (.inr a0), some (.inr a1), none]) (by decide +kernel) rfl rfl (Nat.le_of_ble_eq_true rfl) (ent_of 1 rfl) ?_
  intro cx F
  refine G_iconst F (v := (0 : Int32)) dX7_copies_0 (by decide) ?_
  refine G_istore_n F (L2 := [some (.inr a0), some (.inr a1), some (.inl (0 : Int32))]) dX7_copies_1 (by decide) rfl ?_
  obtain ⟨r1, hr1, h⟩ := bnd h
  have KE1 : ∀ (m5 : Hp), m5 = r1 → G X cx 3 (Qm X cx none m_ nx 0 0) (0) (0) m5 (nx) [none, none, none] [] 20 := by
    intro m5 hq
    subst hq
    try dsimp only at h
    cases h
    exact G_vret F rfl (Nat.le_refl _) (Nat.le_refl _) rfl dX7_copies_20
  have KB1 : ∀ s o1, fX7_copies_L2 a0 a1 s = some o1 → (∀ s', o1 = Sum.inl s' → (fun (s : (Int32 × Hp)) => match s with | (s2_1, m1) => G X cx 3 (Qm X cx none m_ nx 0 0) (0) (0) m1 (nx) [some (.inr a0), some (.inr a1), some (.inl s2_1)] [] 2) s') → (∀ q, o1 = Sum.inr q → q = r1) → (fun (s : (Int32 × Hp)) => match s with | (s2_1, m1) => G X cx 3 (Qm X cx none m_ nx 0 0) (0) (0) m1 (nx) [some (.inr a0), some (.inr a1), some (.inl s2_1)] [] 2) s := by
    intro s o1 h hP1 hE1
    obtain ⟨s2_1, m1⟩ := s
    try dsimp only at hP1 hE1 ⊢
    refine G_iload_n F dX7_copies_2 rfl ?_
    refine G_bipush F (v := (26 : Int32)) dX7_copies_3 (by decide) ?_
    refine G_icmp_ge F (tgt := 20) dX7_copies_5 (by decide) (fun c2 => ?_) (fun c2 => ?_)
    · have h := itt c2 h
      cases h
      exact G_sub F (L2 := [none, none, none]) trivial (KE1 _ (hE1 _ rfl))
    · have h := itf c2 h
      refine G_aload_n F dX7_copies_8 rfl ?_
      refine G_iload_n F dX7_copies_9 rfl ?_
      refine G_aload_n F dX7_copies_10 rfl ?_
      refine G_iload_n F dX7_copies_11 rfl ?_
      obtain ⟨v3, e_v3, h⟩ := bnd h
      refine G_iald F dX7_copies_12 e_v3 ?_
      obtain ⟨m4, e_m4, h⟩ := bnd h
      refine G_iast F dX7_copies_13 e_m4 ?_
      refine G_iinc F (v := (s2_1 + (1 : Int32))) (L2 := [some (.inr a0), some (.inr a1), some (.inl (s2_1 + (1 : Int32)))]) dX7_copies_14 (by decide) rfl rfl rfl ?_
      refine G_goto F (tgt := 2) dX7_copies_17 (by decide) ?_
      cases h
      exact G_sub F (L2 := [some (.inr a0), some (.inr a1), some (.inl (s2_1 + (1 : Int32)))]) ⟨rfl, ⟨rfl, ⟨rfl, trivial⟩⟩⟩ (hP1 _ rfl)
  have hI := iter_ok (fun (s : (Int32 × Hp)) => match s with | (s2_1, m1) => G X cx 3 (Qm X cx none m_ nx 0 0) (0) (0) m1 (nx) [some (.inr a0), some (.inr a1), some (.inl s2_1)] [] 2) (fun q => q = r1) KB1 _ _ _ hr1 rfl
  exact G_sub F (L2 := [some (.inr a0), some (.inr a1), some (.inl (0 : Int32))]) ⟨rfl, ⟨rfl, ⟨rfl, trivial⟩⟩⟩ hI

theorem metX7_isPerson (X : Gx) {m : Hp} {nx : Nat} {a0 : Option Nat} {a1 : Int32} {rv : Int32} (h : fX7_isPerson m a0 a1 = some rv) : Con X (2) yX7_isPerson cX7_isPerson 2 ((Option.some FieldType.boolean)) [.inr a0, .inl a1] m nx (some (.inl rv)) m 0 0 := by
  refine Con.of (own := RX7) (nm := "isPerson") (L := [some (.inr a0), some (.inl a1)]) (by decide +kernel) rfl rfl (Nat.le_of_ble_eq_true rfl) (ent_of 0 rfl) ?_
  intro cx F
  refine G_iload_n F dX7_isPerson_0 rfl ?_
  refine G_iconst F (v := (0 : Int32)) dX7_isPerson_1 (by decide) ?_
  refine G_bipush F (v := (11 : Int32)) dX7_isPerson_2 (by decide) ?_
  obtain ⟨v1, e_v1, h⟩ := bnd h
  refine G_callSv F (As := [.inl a1, .inl (0 : Int32), .inl (11 : Int32)]) (st := []) (metX7_in X e_v1) (lw_S q1427 q1428 q109 q1429) hdfX7_in ⟨by omega, by decide⟩ rfl (Nat.le_of_ble_eq_true rfl) ⟨by omega, by omega⟩ dX7_isPerson_4 ?_
  refine G_if_eq F (tgt := 23) dX7_isPerson_7 (by decide) (fun c2 => ?_) (fun c2 => ?_)
  · have h := itt c2 h
    refine G_iconst F (v := (0 : Int32)) dX7_isPerson_23 (by decide) ?_
    cases h
    exact G_zret F rfl (Or.inl rfl) (Nat.le_refl _) (Nat.le_refl _) rfl dX7_isPerson_24
  · have h := itf c2 h
    refine G_aload_n F dX7_isPerson_10 rfl ?_
    obtain ⟨v3, e_v3, h⟩ := bnd h
    refine G_getR F okX7 (f := 11) (by decide) q1235 rfl dX7_isPerson_11 e_v3 ?_
    refine G_iload_n F dX7_isPerson_14 rfl ?_
    obtain ⟨v4, e_v4, h⟩ := bnd h
    refine G_zald F dX7_isPerson_15 e_v4 ?_
    refine G_if_eq F (tgt := 23) dX7_isPerson_16 (by decide) (fun c5 => ?_) (fun c5 => ?_)
    · have h := itt c5 h
      refine G_iconst F (v := (0 : Int32)) dX7_isPerson_23 (by decide) ?_
      cases h
      exact G_zret F rfl (Or.inl rfl) (Nat.le_refl _) (Nat.le_refl _) rfl dX7_isPerson_24
    · have h := itf c5 h
      refine G_iconst F (v := (1 : Int32)) dX7_isPerson_19 (by decide) ?_
      refine G_goto F (tgt := 24) dX7_isPerson_20 (by decide) ?_
      cases h
      exact G_zret F rfl (Or.inr rfl) (Nat.le_refl _) (Nat.le_refl _) rfl dX7_isPerson_24

theorem metX7_isStation (X : Gx) {m : Hp} {nx : Nat} {a0 : Int32} {rv : Int32} (h : fX7_isStation a0 = some rv) : Con X (2) yX7_isStation cX7_isStation 1 ((Option.some FieldType.boolean)) [.inl a0] m nx (some (.inl rv)) m 0 0 := by
  refine Con.of (own := RX7) (nm := "isStation") (L := [some (.inl a0)]) (by decide +kernel) rfl rfl (Nat.le_of_ble_eq_true rfl) (ent_of 0 rfl) ?_
  intro cx F
  refine G_iload_n F dX7_isStation_0 rfl ?_
  refine G_iconst F (v := (0 : Int32)) dX7_isStation_1 (by decide) ?_
  refine G_bipush F (v := (9 : Int32)) dX7_isStation_2 (by decide) ?_
  obtain ⟨v1, e_v1, h⟩ := bnd h
  refine G_callSv F (As := [.inl a0, .inl (0 : Int32), .inl (9 : Int32)]) (st := []) (metX7_in X e_v1) (lw_S q1427 q1428 q109 q1429) hdfX7_in ⟨by omega, by decide⟩ rfl (Nat.le_of_ble_eq_true rfl) ⟨by omega, by omega⟩ dX7_isStation_4 ?_
  obtain ⟨z2, e_z2, h⟩ := bnd h
  have hz_ := hp_z_of e_z2
  cases h
  exact G_zretz F rfl hz_ (Nat.le_refl _) (Nat.le_refl _) rfl dX7_isStation_7

theorem metX7_areTwo (X : Gx) {m : Hp} {nx : Nat} {a0 : Int32} {a1 : Int32} {rv : Int32} (h : fX7_areTwo a0 a1 = some rv) : Con X (3) yX7_areTwo cX7_areTwo 2 ((Option.some FieldType.boolean)) [.inl a0, .inl a1] m nx (some (.inl rv)) m 0 0 := by
  refine Con.of (own := RX7) (nm := "areTwo") (L := [some (.inl a0), some (.inl a1)]) (by decide +kernel) rfl rfl (Nat.le_of_ble_eq_true rfl) (ent_of 0 rfl) ?_
  intro cx F
  refine G_iload_n F dX7_areTwo_0 rfl ?_
  obtain ⟨v1, e_v1, h⟩ := bnd h
  refine G_callSv F (As := [.inl a0]) (st := []) (metX7_isStation X e_v1) (lw_S q1433 q1434 q109 q1435) hdfX7_isStation ⟨by omega, by decide⟩ rfl (Nat.le_of_ble_eq_true rfl) ⟨by omega, by omega⟩ dX7_areTwo_1 ?_
  refine G_if_eq F (tgt := 23) dX7_areTwo_4 (by decide) (fun c2 => ?_) (fun c2 => ?_)
  · have h := itt c2 h
    refine G_iconst F (v := (0 : Int32)) dX7_areTwo_23 (by decide) ?_
    cases h
    exact G_zret F rfl (Or.inl rfl) (Nat.le_refl _) (Nat.le_refl _) rfl dX7_areTwo_24
  · have h := itf c2 h
    refine G_iload_n F dX7_areTwo_7 rfl ?_
    obtain ⟨v3, e_v3, h⟩ := bnd h
    refine G_callSv F (As := [.inl a1]) (st := []) (metX7_isStation X e_v3) (lw_S q1433 q1434 q109 q1435) hdfX7_isStation ⟨by omega, by decide⟩ rfl (Nat.le_of_ble_eq_true rfl) ⟨by omega, by omega⟩ dX7_areTwo_8 ?_
    refine G_if_eq F (tgt := 23) dX7_areTwo_11 (by decide) (fun c4 => ?_) (fun c4 => ?_)
    · have h := itt c4 h
      refine G_iconst F (v := (0 : Int32)) dX7_areTwo_23 (by decide) ?_
      cases h
      exact G_zret F rfl (Or.inl rfl) (Nat.le_refl _) (Nat.le_refl _) rfl dX7_areTwo_24
    · have h := itf c4 h
      refine G_iload_n F dX7_areTwo_14 rfl ?_
      refine G_iload_n F dX7_areTwo_15 rfl ?_
      refine G_icmp_eq F (tgt := 23) dX7_areTwo_16 (by decide) (fun c5 => ?_) (fun c5 => ?_)
      · have h := itt c5 h
        refine G_iconst F (v := (0 : Int32)) dX7_areTwo_23 (by decide) ?_
        cases h
        exact G_zret F rfl (Or.inl rfl) (Nat.le_refl _) (Nat.le_refl _) rfl dX7_areTwo_24
      · have h := itf c5 h
        refine G_iconst F (v := (1 : Int32)) dX7_areTwo_19 (by decide) ?_
        refine G_goto F (tgt := 24) dX7_areTwo_20 (by decide) ?_
        cases h
        exact G_zret F rfl (Or.inr rfl) (Nat.le_refl _) (Nat.le_refl _) rfl dX7_areTwo_24

theorem metX7_runs (X : Gx) {m : Hp} {nx : Nat} {a0 : Option Nat} {a1 : Int32} {rv : Int32} (h : fX7_runs m a0 a1 = some rv) : Con X (2) yX7_runs cX7_runs 2 ((Option.some FieldType.boolean)) [.inr a0, .inl a1] m nx (some (.inl rv)) m 0 0 := by
  refine Con.of (own := RX7) (nm := "runs") (L := [some (.inr a0), some (.inl a1)]) (by decide +kernel) rfl rfl (Nat.le_of_ble_eq_true rfl) (ent_of 0 rfl) ?_
  intro cx F
  refine G_iload_n F dX7_runs_0 rfl ?_
  refine G_iconst F (v := (0 : Int32)) dX7_runs_1 (by decide) ?_
  refine G_aload_n F dX7_runs_2 rfl ?_
  obtain ⟨v1, e_v1, h⟩ := bnd h
  refine G_getI F okX7 (f := 14) (by decide) q1238 rfl dX7_runs_3 e_v1 ?_
  refine G_iconst F (v := (1 : Int32)) dX7_runs_6 (by decide) ?_
  refine G_isub F dX7_runs_7 ?_
  obtain ⟨v2, e_v2, h⟩ := bnd h
  refine G_callSv F (As := [.inl a1, .inl (0 : Int32), .inl (v1 - (1 : Int32))]) (st := []) (metX7_in X e_v2) (lw_S q1427 q1428 q109 q1429) hdfX7_in ⟨by omega, by decide⟩ rfl (Nat.le_of_ble_eq_true rfl) ⟨by omega, by omega⟩ dX7_runs_8 ?_
  refine G_if_eq F (tgt := 27) dX7_runs_11 (by decide) (fun c3 => ?_) (fun c3 => ?_)
  · have h := itt c3 h
    refine G_iconst F (v := (0 : Int32)) dX7_runs_27 (by decide) ?_
    cases h
    exact G_zret F rfl (Or.inl rfl) (Nat.le_refl _) (Nat.le_refl _) rfl dX7_runs_28
  · have h := itf c3 h
    refine G_aload_n F dX7_runs_14 rfl ?_
    obtain ⟨v4, e_v4, h⟩ := bnd h
    refine G_getR F okX7 (f := 12) (by decide) q1236 rfl dX7_runs_15 e_v4 ?_
    refine G_iload_n F dX7_runs_18 rfl ?_
    obtain ⟨v5, e_v5, h⟩ := bnd h
    refine G_zald F dX7_runs_19 e_v5 ?_
    refine G_if_ne F (tgt := 27) dX7_runs_20 (by decide) (fun c6 => ?_) (fun c6 => ?_)
    · have h := itf c6 h
      refine G_iconst F (v := (0 : Int32)) dX7_runs_27 (by decide) ?_
      cases h
      exact G_zret F rfl (Or.inl rfl) (Nat.le_refl _) (Nat.le_refl _) rfl dX7_runs_28
    · have h := itt c6 h
      refine G_iconst F (v := (1 : Int32)) dX7_runs_23 (by decide) ?_
      refine G_goto F (tgt := 28) dX7_runs_24 (by decide) ?_
      cases h
      exact G_zret F rfl (Or.inr rfl) (Nat.le_refl _) (Nat.le_refl _) rfl dX7_runs_28

theorem metX7_at (X : Gx) {m : Hp} {nx : Nat} {a0 : Int32} {a1 : Int32} {rv : Int32} (h : fX7_at a0 a1 = some rv) : Con X (1) yX7_at cX7_at 2 ((Option.some FieldType.int)) [.inl a0, .inl a1] m nx (some (.inl rv)) m 0 0 := by
  refine Con.of (own := RX7) (nm := "at") (L := [some (.inl a0), some (.inl a1)]) (by decide +kernel) rfl rfl (Nat.le_of_ble_eq_true rfl) (ent_of 0 rfl) ?_
  intro cx F
  refine G_bipush F (v := (8 : Int32)) dX7_at_0 (by decide) ?_
  refine G_iload_n F dX7_at_2 rfl ?_
  refine G_imul F dX7_at_3 ?_
  refine G_iload_n F dX7_at_4 rfl ?_
  refine G_iadd F dX7_at_5 ?_
  cases h
  exact G_iret F rfl (Nat.le_refl _) (Nat.le_refl _) rfl dX7_at_6

theorem metX7_stopAt (X : Gx) {m : Hp} {nx : Nat} {a0 : Option Nat} {a1 : Int32} {a2 : Int32} {rv : Int32} (h : fX7_stopAt m a0 a1 a2 = some rv) : Con X (2) yX7_stopAt cX7_stopAt 4 ((Option.some FieldType.int)) [.inr a0, .inl a1, .inl a2] m nx (some (.inl rv)) m 0 0 := by
  refine Con.of (own := RX7) (nm := "stopAt") (L := [some (.inr a0), some (.inl a1), some (.inl a2), none]) (by decide +kernel) rfl rfl (Nat.le_of_ble_eq_true rfl) (ent_of 1 rfl) ?_
  intro cx F
  refine G_iconst F (v := (0 : Int32)) dX7_stopAt_0 (by decide) ?_
  refine G_istore_n F (L2 := [some (.inr a0), some (.inl a1), some (.inl a2), some (.inl (0 : Int32))]) dX7_stopAt_1 (by decide) rfl ?_
  obtain ⟨r1, hr1, h⟩ := bnd h
  have KE1 : ∀ (_ : Unit), Sum.inl () = r1 → G X cx 4 (Qm X cx (some (.inl rv)) m nx 0 0) (0) (0) m (nx) [none, none, none, none] [] 34 := by
    intro _ hq
    subst hq
    try dsimp only at h
    refine G_iconst F (v := (-1 : Int32)) dX7_stopAt_34 (by decide) ?_
    cases h
    exact G_iret F rfl (Nat.le_refl _) (Nat.le_refl _) rfl dX7_stopAt_35
  have KR1 : ∀ q, Sum.inr q = r1 → some q = some rv := by
    intro q hq
    subst hq
    exact h
  have KB1 : ∀ s o1, fX7_stopAt_L2 m a0 a1 a2 s = some o1 → (∀ s', o1 = Sum.inl s' → (fun (s : Int32) => match s with | s3_1 => G X cx 4 (Qm X cx (some (.inl rv)) m nx 0 0) (0) (0) m (nx) [some (.inr a0), some (.inl a1), some (.inl a2), some (.inl s3_1)] [] 2) s') → (∀ q, o1 = Sum.inr q → q = r1) → (fun (s : Int32) => match s with | s3_1 => G X cx 4 (Qm X cx (some (.inl rv)) m nx 0 0) (0) (0) m (nx) [some (.inr a0), some (.inl a1), some (.inl a2), some (.inl s3_1)] [] 2) s := by
    intro s o1 h hP1 hE1
    obtain ⟨s3_1, hs_⟩ : ∃ x, x = s := ⟨_, rfl⟩
    subst hs_
    try dsimp only at hP1 hE1 ⊢
    refine G_iload_n F dX7_stopAt_2 rfl ?_
    refine G_aload_n F dX7_stopAt_3 rfl ?_
    obtain ⟨v2, e_v2, h⟩ := bnd h
    refine G_getR F okX7 (f := 6) (by decide) q1230 rfl dX7_stopAt_4 e_v2 ?_
    refine G_iload_n F dX7_stopAt_7 rfl ?_
    obtain ⟨v3, e_v3, h⟩ := bnd h
    refine G_iald F dX7_stopAt_8 e_v3 ?_
    refine G_icmp_ge F (tgt := 34) dX7_stopAt_9 (by decide) (fun c4 => ?_) (fun c4 => ?_)
    · have h := itt c4 h
      cases h
      exact G_sub F (L2 := [none, none, none, none]) trivial (KE1 () (hE1 _ rfl))
    · have h := itf c4 h
      refine G_aload_n F dX7_stopAt_12 rfl ?_
      obtain ⟨v5, e_v5, h⟩ := bnd h
      refine G_getR F okX7 (f := 7) (by decide) q1231 rfl dX7_stopAt_13 e_v5 ?_
      refine G_iload_n F dX7_stopAt_16 rfl ?_
      refine G_iload_n F dX7_stopAt_17 rfl ?_
      obtain ⟨v6, e_v6, h⟩ := bnd h
      refine G_callSv F (As := [.inl a1, .inl s3_1]) (st := [.inr v5]) (metX7_at X e_v6) (lw_S q1555 q1556 q109 q1557) hdfX7_at ⟨by omega, by decide⟩ rfl (Nat.le_of_ble_eq_true rfl) ⟨by omega, by omega⟩ dX7_stopAt_18 ?_
      obtain ⟨v7, e_v7, h⟩ := bnd h
      refine G_iald F dX7_stopAt_21 e_v7 ?_
      refine G_iload_n F dX7_stopAt_22 rfl ?_
      refine G_icmp_ne F (tgt := 28) dX7_stopAt_23 (by decide) (fun c8 => ?_) (fun c8 => ?_)
      · have h := itf c8 h
        refine G_iinc F (v := (s3_1 + (1 : Int32))) (L2 := [some (.inr a0), some (.inl a1), some (.inl a2), some (.inl (s3_1 + (1 : Int32)))]) dX7_stopAt_28 (by decide) rfl rfl rfl ?_
        refine G_goto F (tgt := 2) dX7_stopAt_31 (by decide) ?_
        cases h
        exact G_sub F (L2 := [some (.inr a0), some (.inl a1), some (.inl a2), some (.inl (s3_1 + (1 : Int32)))]) ⟨rfl, ⟨rfl, ⟨rfl, ⟨rfl, trivial⟩⟩⟩⟩ (hP1 _ rfl)
      · have h := itt c8 h
        refine G_iload_n F dX7_stopAt_26 rfl ?_
        cases h
        have h := KR1 _ (hE1 _ rfl)
        cases h
        exact G_iret F rfl (Nat.le_refl _) (Nat.le_refl _) rfl dX7_stopAt_27
  have hI := iter_ok (fun (s : Int32) => match s with | s3_1 => G X cx 4 (Qm X cx (some (.inl rv)) m nx 0 0) (0) (0) m (nx) [some (.inr a0), some (.inl a1), some (.inl a2), some (.inl s3_1)] [] 2) (fun q => q = r1) KB1 _ _ _ hr1 rfl
  exact G_sub F (L2 := [some (.inr a0), some (.inl a1), some (.inl a2), some (.inl (0 : Int32))]) ⟨rfl, ⟨rfl, ⟨rfl, ⟨rfl, trivial⟩⟩⟩⟩ hI

theorem metX7_leavesFrom (X : Gx) {m : Hp} {nx : Nat} {a0 : Option Nat} {a1 : Int32} {a2 : Int32} {rv : Int32} (h : fX7_leavesFrom m a0 a1 a2 = some rv) : Con X (3) yX7_leavesFrom cX7_leavesFrom 3 ((Option.some FieldType.boolean)) [.inr a0, .inl a1, .inl a2] m nx (some (.inl rv)) m 0 0 := by
  refine Con.of (own := RX7) (nm := "leavesFrom") (L := [some (.inr a0), some (.inl a1), some (.inl a2)]) (by decide +kernel) rfl rfl (Nat.le_of_ble_eq_true rfl) (ent_of 0 rfl) ?_
  intro cx F
  refine G_aload_n F dX7_leavesFrom_0 rfl ?_
  refine G_iload_n F dX7_leavesFrom_1 rfl ?_
  obtain ⟨v1, e_v1, h⟩ := bnd h
  obtain ⟨hc_v1, e_v1⟩ := hp_on_of e_v1
  refine G_callVv F (As := [.inl a1]) (st := []) (metX7_runs X e_v1) hc_v1 rfl rfl (lw_V q1582 q1584 qs71 q109 q1585) hdfX7_runs ⟨by omega, by decide⟩ rfl (Nat.le_of_ble_eq_true rfl) ⟨by omega, by omega⟩ dX7_leavesFrom_2 ?_
  refine G_if_eq F (tgt := 33) dX7_leavesFrom_5 (by decide) (fun c2 => ?_) (fun c2 => ?_)
  · have h := itt c2 h
    refine G_iconst F (v := (0 : Int32)) dX7_leavesFrom_33 (by decide) ?_
    cases h
    exact G_zret F rfl (Or.inl rfl) (Nat.le_refl _) (Nat.le_refl _) rfl dX7_leavesFrom_34
  · have h := itf c2 h
    refine G_aload_n F dX7_leavesFrom_8 rfl ?_
    refine G_iload_n F dX7_leavesFrom_9 rfl ?_
    refine G_iload_n F dX7_leavesFrom_10 rfl ?_
    obtain ⟨v3, e_v3, h⟩ := bnd h
    obtain ⟨hc_v3, e_v3⟩ := hp_on_of e_v3
    refine G_callVv F (As := [.inl a1, .inl a2]) (st := []) (metX7_stopAt X e_v3) hc_v3 rfl rfl (lw_V q1624 q1626 qs79 q109 q1627) hdfX7_stopAt ⟨by omega, by decide⟩ rfl (Nat.le_of_ble_eq_true rfl) ⟨by omega, by omega⟩ dX7_leavesFrom_11 ?_
    refine G_iconst F (v := (0 : Int32)) dX7_leavesFrom_14 (by decide) ?_
    refine G_aload_n F dX7_leavesFrom_15 rfl ?_
    obtain ⟨v4, e_v4, h⟩ := bnd h
    refine G_getR F okX7 (f := 6) (by decide) q1230 rfl dX7_leavesFrom_16 e_v4 ?_
    refine G_iload_n F dX7_leavesFrom_19 rfl ?_
    obtain ⟨v5, e_v5, h⟩ := bnd h
    refine G_iald F dX7_leavesFrom_20 e_v5 ?_
    refine G_iconst F (v := (2 : Int32)) dX7_leavesFrom_21 (by decide) ?_
    refine G_isub F dX7_leavesFrom_22 ?_
    obtain ⟨v6, e_v6, h⟩ := bnd h
    refine G_callSv F (As := [.inl v3, .inl (0 : Int32), .inl (v5 - (2 : Int32))]) (st := []) (metX7_in X e_v6) (lw_S q1427 q1428 q109 q1429) hdfX7_in ⟨by omega, by decide⟩ rfl (Nat.le_of_ble_eq_true rfl) ⟨by omega, by omega⟩ dX7_leavesFrom_23 ?_
    refine G_if_eq F (tgt := 33) dX7_leavesFrom_26 (by decide) (fun c7 => ?_) (fun c7 => ?_)
    · have h := itt c7 h
      refine G_iconst F (v := (0 : Int32)) dX7_leavesFrom_33 (by decide) ?_
      cases h
      exact G_zret F rfl (Or.inl rfl) (Nat.le_refl _) (Nat.le_refl _) rfl dX7_leavesFrom_34
    · have h := itf c7 h
      refine G_iconst F (v := (1 : Int32)) dX7_leavesFrom_29 (by decide) ?_
      refine G_goto F (tgt := 34) dX7_leavesFrom_30 (by decide) ?_
      cases h
      exact G_zret F rfl (Or.inr rfl) (Nat.le_refl _) (Nat.le_refl _) rfl dX7_leavesFrom_34

theorem metX7_comesTo (X : Gx) {m : Hp} {nx : Nat} {a0 : Option Nat} {a1 : Int32} {a2 : Int32} {rv : Int32} (h : fX7_comesTo m a0 a1 a2 = some rv) : Con X (3) yX7_comesTo cX7_comesTo 3 ((Option.some FieldType.boolean)) [.inr a0, .inl a1, .inl a2] m nx (some (.inl rv)) m 0 0 := by
  refine Con.of (own := RX7) (nm := "comesTo") (L := [some (.inr a0), some (.inl a1), some (.inl a2)]) (by decide +kernel) rfl rfl (Nat.le_of_ble_eq_true rfl) (ent_of 0 rfl) ?_
  intro cx F
  refine G_aload_n F dX7_comesTo_0 rfl ?_
  refine G_iload_n F dX7_comesTo_1 rfl ?_
  obtain ⟨v1, e_v1, h⟩ := bnd h
  obtain ⟨hc_v1, e_v1⟩ := hp_on_of e_v1
  refine G_callVv F (As := [.inl a1]) (st := []) (metX7_runs X e_v1) hc_v1 rfl rfl (lw_V q1582 q1584 qs71 q109 q1585) hdfX7_runs ⟨by omega, by decide⟩ rfl (Nat.le_of_ble_eq_true rfl) ⟨by omega, by omega⟩ dX7_comesTo_2 ?_
  refine G_if_eq F (tgt := 21) dX7_comesTo_5 (by decide) (fun c2 => ?_) (fun c2 => ?_)
  · have h := itt c2 h
    refine G_iconst F (v := (0 : Int32)) dX7_comesTo_21 (by decide) ?_
    cases h
    exact G_zret F rfl (Or.inl rfl) (Nat.le_refl _) (Nat.le_refl _) rfl dX7_comesTo_22
  · have h := itf c2 h
    refine G_aload_n F dX7_comesTo_8 rfl ?_
    refine G_iload_n F dX7_comesTo_9 rfl ?_
    refine G_iload_n F dX7_comesTo_10 rfl ?_
    obtain ⟨v3, e_v3, h⟩ := bnd h
    obtain ⟨hc_v3, e_v3⟩ := hp_on_of e_v3
    refine G_callVv F (As := [.inl a1, .inl a2]) (st := []) (metX7_stopAt X e_v3) hc_v3 rfl rfl (lw_V q1624 q1626 qs79 q109 q1627) hdfX7_stopAt ⟨by omega, by decide⟩ rfl (Nat.le_of_ble_eq_true rfl) ⟨by omega, by omega⟩ dX7_comesTo_11 ?_
    refine G_if_le F (tgt := 21) dX7_comesTo_14 (by decide) (fun c4 => ?_) (fun c4 => ?_)
    · have h := itt c4 h
      refine G_iconst F (v := (0 : Int32)) dX7_comesTo_21 (by decide) ?_
      cases h
      exact G_zret F rfl (Or.inl rfl) (Nat.le_refl _) (Nat.le_refl _) rfl dX7_comesTo_22
    · have h := itf c4 h
      refine G_iconst F (v := (1 : Int32)) dX7_comesTo_17 (by decide) ?_
      refine G_goto F (tgt := 22) dX7_comesTo_18 (by decide) ?_
      cases h
      exact G_zret F rfl (Or.inr rfl) (Nat.le_refl _) (Nat.le_refl _) rfl dX7_comesTo_22

theorem metX7_minuteAt (X : Gx) {m : Hp} {nx : Nat} {a0 : Option Nat} {a1 : Int32} {a2 : Int32} {rv : Int32} (h : fX7_minuteAt m a0 a1 a2 = some rv) : Con X (3) yX7_minuteAt cX7_minuteAt 3 ((Option.some FieldType.int)) [.inr a0, .inl a1, .inl a2] m nx (some (.inl rv)) m 0 0 := by
  refine Con.of (own := RX7) (nm := "minuteAt") (L := [some (.inr a0), some (.inl a1), some (.inl a2)]) (by decide +kernel) rfl rfl (Nat.le_of_ble_eq_true rfl) (ent_of 0 rfl) ?_
  intro cx F
  refine G_aload_n F dX7_minuteAt_0 rfl ?_
  obtain ⟨v1, e_v1, h⟩ := bnd h
  refine G_getR F okX7 (f := 8) (by decide) q1232 rfl dX7_minuteAt_1 e_v1 ?_
  refine G_iload_n F dX7_minuteAt_4 rfl ?_
  refine G_aload_n F dX7_minuteAt_5 rfl ?_
  refine G_iload_n F dX7_minuteAt_6 rfl ?_
  refine G_iload_n F dX7_minuteAt_7 rfl ?_
  obtain ⟨v2, e_v2, h⟩ := bnd h
  obtain ⟨hc_v2, e_v2⟩ := hp_on_of e_v2
  refine G_callVv F (As := [.inl a1, .inl a2]) (st := [.inl a1, .inr v1]) (metX7_stopAt X e_v2) hc_v2 rfl rfl (lw_V q1624 q1626 qs79 q109 q1627) hdfX7_stopAt ⟨by omega, by decide⟩ rfl (Nat.le_of_ble_eq_true rfl) ⟨by omega, by omega⟩ dX7_minuteAt_8 ?_
  obtain ⟨v3, e_v3, h⟩ := bnd h
  refine G_callSv F (As := [.inl a1, .inl v2]) (st := [.inr v1]) (metX7_at X e_v3) (lw_S q1555 q1556 q109 q1557) hdfX7_at ⟨by omega, by decide⟩ rfl (Nat.le_of_ble_eq_true rfl) ⟨by omega, by omega⟩ dX7_minuteAt_11 ?_
  obtain ⟨v4, e_v4, h⟩ := bnd h
  refine G_iald F dX7_minuteAt_14 e_v4 ?_
  cases h
  exact G_iret F rfl (Nat.le_refl _) (Nat.le_refl _) rfl dX7_minuteAt_15

theorem metX7_person (X : Gx) {m : Hp} {nx : Nat} {a0 : Option Nat} {a1 : Int32} {a2 : Int32} {a3 : Int32} {a4 : Int32} {rv : Int32} {m_ : Hp} (h : fX7_person m a0 a1 a2 a3 a4 = some (rv, m_)) : Con X (4) yX7_person cX7_person 5 ((Option.some FieldType.boolean)) [.inr a0, .inl a1, .inl a2, .inl a3, .inl a4] m nx (some (.inl rv)) m_ 0 0 := by
  refine Con.of (own := RX7) (nm := "person") (L := [some (.inr a0), some (.inl a1), some (.inl a2), some (.inl a3), some (.inl a4)]) (by decide +kernel) rfl rfl (Nat.le_of_ble_eq_true rfl) (ent_of 0 rfl) ?_
  intro cx F
  refine G_iload_n F dX7_person_0 rfl ?_
  refine G_iconst F (v := (0 : Int32)) dX7_person_1 (by decide) ?_
  refine G_bipush F (v := (11 : Int32)) dX7_person_2 (by decide) ?_
  obtain ⟨v1, e_v1, h⟩ := bnd h
  refine G_callSv F (As := [.inl a1, .inl (0 : Int32), .inl (11 : Int32)]) (st := []) (metX7_in X e_v1) (lw_S q1427 q1428 q109 q1429) hdfX7_in ⟨by omega, by decide⟩ rfl (Nat.le_of_ble_eq_true rfl) ⟨by omega, by omega⟩ dX7_person_4 ?_
  refine G_if_eq F (tgt := 30) dX7_person_7 (by decide) (fun c2 => ?_) (fun c2 => ?_)
  · have h := itt c2 h
    refine G_iconst F (v := (0 : Int32)) dX7_person_30 (by decide) ?_
    cases h
    exact G_zret F rfl (Or.inl rfl) (Nat.le_refl _) (Nat.le_refl _) rfl dX7_person_31
  · have h := itf c2 h
    refine G_iload_n F dX7_person_10 rfl ?_
    refine G_iload_n F dX7_person_11 rfl ?_
    obtain ⟨v3, e_v3, h⟩ := bnd h
    refine G_callSv F (As := [.inl a2, .inl a3]) (st := []) (metX7_areTwo X e_v3) (lw_S q1430 q1431 q109 q1432) hdfX7_areTwo ⟨by omega, by decide⟩ rfl (Nat.le_of_ble_eq_true rfl) ⟨by omega, by omega⟩ dX7_person_12 ?_
    refine G_if_eq F (tgt := 30) dX7_person_15 (by decide) (fun c4 => ?_) (fun c4 => ?_)
    · have h := itt c4 h
      refine G_iconst F (v := (0 : Int32)) dX7_person_30 (by decide) ?_
      cases h
      exact G_zret F rfl (Or.inl rfl) (Nat.le_refl _) (Nat.le_refl _) rfl dX7_person_31
    · have h := itf c4 h
      refine G_iload F dX7_person_18 rfl ?_
      refine G_iconst F (v := (0 : Int32)) dX7_person_20 (by decide) ?_
      refine G_sipush F (v := (1439 : Int32)) dX7_person_21 (by decide) ?_
      obtain ⟨v5, e_v5, h⟩ := bnd h
      refine G_callSv F (As := [.inl a4, .inl (0 : Int32), .inl (1439 : Int32)]) (st := []) (metX7_in X e_v5) (lw_S q1427 q1428 q109 q1429) hdfX7_in ⟨by omega, by decide⟩ rfl (Nat.le_of_ble_eq_true rfl) ⟨by omega, by omega⟩ dX7_person_24 ?_
      refine G_if_ne F (tgt := 32) dX7_person_27 (by decide) (fun c6 => ?_) (fun c6 => ?_)
      · have h := itf c6 h
        refine G_aload_n F dX7_person_32 rfl ?_
        obtain ⟨v7, e_v7, h⟩ := bnd h
        refine G_getR F okX7 (f := 11) (by decide) q1235 rfl dX7_person_33 e_v7 ?_
        refine G_iload_n F dX7_person_36 rfl ?_
        refine G_iconst F (v := (1 : Int32)) dX7_person_37 (by decide) ?_
        obtain ⟨m8, e_m8, h⟩ := bnd h
        refine G_zast F dX7_person_38 e_m8 ?_
        refine G_aload_n F dX7_person_39 rfl ?_
        obtain ⟨v9, e_v9, h⟩ := bnd h
        refine G_getR F okX7 (f := 3) (by decide) q1227 rfl dX7_person_40 e_v9 ?_
        refine G_iload_n F dX7_person_43 rfl ?_
        refine G_iload_n F dX7_person_44 rfl ?_
        obtain ⟨m10, e_m10, h⟩ := bnd h
        refine G_iast F dX7_person_45 e_m10 ?_
        refine G_aload_n F dX7_person_46 rfl ?_
        obtain ⟨v11, e_v11, h⟩ := bnd h
        refine G_getR F okX7 (f := 4) (by decide) q1228 rfl dX7_person_47 e_v11 ?_
        refine G_iload_n F dX7_person_50 rfl ?_
        refine G_iload_n F dX7_person_51 rfl ?_
        obtain ⟨m12, e_m12, h⟩ := bnd h
        refine G_iast F dX7_person_52 e_m12 ?_
        refine G_aload_n F dX7_person_53 rfl ?_
        obtain ⟨v13, e_v13, h⟩ := bnd h
        refine G_getR F okX7 (f := 5) (by decide) q1229 rfl dX7_person_54 e_v13 ?_
        refine G_iload_n F dX7_person_57 rfl ?_
        refine G_iload F dX7_person_58 rfl ?_
        obtain ⟨m14, e_m14, h⟩ := bnd h
        refine G_iast F dX7_person_60 e_m14 ?_
        refine G_aload_n F dX7_person_61 rfl ?_
        obtain ⟨v15, e_v15, h⟩ := bnd h
        refine G_getR F okX7 (f := 0) (by decide) q1224 rfl dX7_person_62 e_v15 ?_
        refine G_iconst F (v := (0 : Int32)) dX7_person_65 (by decide) ?_
        refine G_iload_n F dX7_person_66 rfl ?_
        refine G_iadd F dX7_person_67 ?_
        refine G_iconst F (v := (0 : Int32)) dX7_person_68 (by decide) ?_
        obtain ⟨m16, e_m16, h⟩ := bnd h
        refine G_iast F dX7_person_69 e_m16 ?_
        refine G_aload_n F dX7_person_70 rfl ?_
        obtain ⟨v17, e_v17, h⟩ := bnd h
        refine G_getR F okX7 (f := 0) (by decide) q1224 rfl dX7_person_71 e_v17 ?_
        refine G_bipush F (v := (12 : Int32)) dX7_person_74 (by decide) ?_
        refine G_iload_n F dX7_person_76 rfl ?_
        refine G_iadd F dX7_person_77 ?_
        refine G_iconst F (v := (0 : Int32)) dX7_person_78 (by decide) ?_
        obtain ⟨m18, e_m18, h⟩ := bnd h
        refine G_iast F dX7_person_79 e_m18 ?_
        refine G_iconst F (v := (1 : Int32)) dX7_person_80 (by decide) ?_
        cases h
        exact G_zret F rfl (Or.inr rfl) (Nat.le_refl _) (Nat.le_refl _) rfl dX7_person_81
      · have h := itt c6 h
        refine G_iconst F (v := (0 : Int32)) dX7_person_30 (by decide) ?_
        cases h
        exact G_zret F rfl (Or.inl rfl) (Nat.le_refl _) (Nat.le_refl _) rfl dX7_person_31

theorem metX7_changing (X : Gx) {m : Hp} {nx : Nat} {a0 : Option Nat} {a1 : Int32} {rv : Int32} {m_ : Hp} (h : fX7_changing m a0 a1 = some (rv, m_)) : Con X (2) yX7_changing cX7_changing 2 ((Option.some FieldType.boolean)) [.inr a0, .inl a1] m nx (some (.inl rv)) m_ 0 0 := by
  refine Con.of (own := RX7) (nm := "changing") (L := [some (.inr a0), some (.inl a1)]) (by decide +kernel) rfl rfl (Nat.le_of_ble_eq_true rfl) (ent_of 0 rfl) ?_
  intro cx F
  refine G_iload_n F dX7_changing_0 rfl ?_
  refine G_iconst F (v := (0 : Int32)) dX7_changing_1 (by decide) ?_
  refine G_bipush F (v := (60 : Int32)) dX7_changing_2 (by decide) ?_
  obtain ⟨v1, e_v1, h⟩ := bnd h
  refine G_callSv F (As := [.inl a1, .inl (0 : Int32), .inl (60 : Int32)]) (st := []) (metX7_in X e_v1) (lw_S q1427 q1428 q109 q1429) hdfX7_in ⟨by omega, by decide⟩ rfl (Nat.le_of_ble_eq_true rfl) ⟨by omega, by omega⟩ dX7_changing_4 ?_
  refine G_if_ne F (tgt := 12) dX7_changing_7 (by decide) (fun c2 => ?_) (fun c2 => ?_)
  · have h := itf c2 h
    refine G_aload_n F dX7_changing_12 rfl ?_
    refine G_iload_n F dX7_changing_13 rfl ?_
    obtain ⟨m3, e_m3, h⟩ := bnd h
    refine G_putV F okX7 (f := 13) (by decide) q1237 rfl rfl dX7_changing_14 (vfit_int _) e_m3 ?_
    refine G_iconst F (v := (1 : Int32)) dX7_changing_17 (by decide) ?_
    cases h
    exact G_zret F rfl (Or.inr rfl) (Nat.le_refl _) (Nat.le_refl _) rfl dX7_changing_18
  · have h := itt c2 h
    refine G_iconst F (v := (0 : Int32)) dX7_changing_10 (by decide) ?_
    cases h
    exact G_zret F rfl (Or.inl rfl) (Nat.le_refl _) (Nat.le_refl _) rfl dX7_changing_11
