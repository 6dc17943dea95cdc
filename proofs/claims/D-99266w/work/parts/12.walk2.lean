set_option maxRecDepth 100000
set_option linter.unusedVariables false
theorem metX6_ends (X : Gx) {m : Hp} {nx : Nat} {a0 : Option Nat} {rv : Int32} (h : fX6_ends m a0 = some rv) : Con X (1) yX6_ends cX6_ends 1 ((Option.some FieldType.int)) [.inr a0] m nx (some (.inl rv)) m 0 0 := by
  refine Con.of (own := RX6) (nm := "ends") (L := [some (.inr a0)]) (by decide +kernel) rfl rfl (Nat.le_of_ble_eq_true rfl) (ent_of 0 rfl) ?_
  intro cx F
  refine G_aload_n F dX6_ends_0 rfl ?_
  obtain ⟨v1, e_v1, h⟩ := bnd h
  refine G_getR F okX6 (f := 1) (by decide) q299 rfl dX6_ends_1 e_v1 ?_
  refine G_aload_n F dX6_ends_4 rfl ?_
  obtain ⟨v2, e_v2, h⟩ := bnd h
  refine G_getI F okX6 (f := 2) (by decide) q303 rfl dX6_ends_5 e_v2 ?_
  refine G_iconst F (v := (1 : Int32)) dX6_ends_8 (by decide) ?_
  refine G_isub F dX6_ends_9 ?_
  obtain ⟨v3, e_v3, h⟩ := bnd h
  refine G_iald F dX6_ends_10 e_v3 ?_
  cases h
  exact G_iret F rfl (Nat.le_refl _) (Nat.le_refl _) rfl dX6_ends_11

theorem metX18_repeats (X : Gx) {m : Hp} {nx : Nat} {a0 : Option Nat} {a1 : Int32} {m_ : Hp} (h : fX18_repeats m a0 a1 = some m_) : Con X (4) yX18_repeats cX18_repeats 3 ((none : Option FieldType)) [.inr a0, .inl a1] m nx none m_ 0 0 := by
  refine Con.of (own := RX18) (nm := "repeats") (L := [some (.inr a0), some (.inl a1), none]) (by decide +kernel) rfl rfl (Nat.le_of_ble_eq_true rfl) (ent_of 1 rfl) ?_
  intro cx F
  refine G_aload_n F dX18_repeats_0 rfl ?_
  obtain ⟨m1, e_m1, h⟩ := bnd h
  obtain ⟨hc_m1, e_m1⟩ := hp_on_of e_m1
  refine G_callU0 F (As := []) (st := []) (x := ⟨"MissedTrains$Clerk", "goes", "()V"⟩) (owner := "MissedTrains$Scribe") (metX17_goesc X e_m1) hc_m1 rfl (lw_U q806 q807 q809 q810 q125 q811) rfl hdfX17_goes ⟨by omega, by decide⟩ rfl (Nat.le_of_ble_eq_true rfl) ⟨by omega, by omega⟩ dX18_repeats_1 ?_
  refine G_aload_n F dX18_repeats_4 rfl ?_
  obtain ⟨v2, e_v2, h⟩ := bnd h
  refine G_getR F okX18 (f := 6) (by decide) q717 rfl dX18_repeats_5 e_v2 ?_
  refine G_iload_n F dX18_repeats_8 rfl ?_
  refine G_aload_n F dX18_repeats_9 rfl ?_
  refine G_iconst F (v := (2 : Int32)) dX18_repeats_10 (by decide) ?_
  refine G_iconst F (v := (2 : Int32)) dX18_repeats_11 (by decide) ?_
  refine G_bipush F (v := (24 : Int32)) dX18_repeats_12 (by decide) ?_
  obtain ⟨⟨v3, m4⟩, e_v3, h⟩ := bnd h
  obtain ⟨hc_v3, e_v3⟩ := hp_on_of e_v3
  refine G_callUv F (As := [.inl (2 : Int32), .inl (2 : Int32), .inl (24 : Int32)]) (st := [.inl a1, .inr v2]) (x := ⟨"MissedTrains$Clerk", "number", "(III)I"⟩) (owner := "MissedTrains$Scribe") (metX17_numberc X e_v3) hc_v3 rfl (lw_U q812 q813 q815 q816 q125 q817) rfl hdfX17_number ⟨by omega, by decide⟩ rfl (Nat.le_of_ble_eq_true rfl) ⟨by omega, by omega⟩ dX18_repeats_14 ?_
  obtain ⟨m5, e_m5, h⟩ := bnd h
  refine G_iast F dX18_repeats_17 e_m5 ?_
  refine G_aload_n F dX18_repeats_18 rfl ?_
  obtain ⟨v6, e_v6, h⟩ := bnd h
  obtain ⟨hc_v6, e_v6⟩ := hp_on_of e_v6
  refine G_callUv F (As := []) (st := []) (x := ⟨"MissedTrains$Clerk", "isGood", "()Z"⟩) (owner := "MissedTrains$Scribe") (metX17_isGoodc X e_v6) hc_v6 rfl (lw_U q787 q788 q790 q791 q125 q792) rfl hdfX17_isGood ⟨by omega, by decide⟩ rfl (Nat.le_of_ble_eq_true rfl) ⟨by omega, by omega⟩ dX18_repeats_19 ?_
  obtain ⟨p8, hp8, h⟩ := bnd h
  have K8 : ∀ (m7 : Hp), m7 = p8 → G X cx 3 (Qm X cx none m_ nx 0 0) (0) (0) m7 (nx) [some (.inr a0), some (.inl a1), none] [] 43 := by
    intro m7 hq
    subst hq
    try dsimp only at h
    refine G_aload_n F dX18_repeats_43 rfl ?_
    obtain ⟨m9, e_m9, h⟩ := bnd h
    obtain ⟨hc_m9, e_m9⟩ := hp_on_of e_m9
    refine G_callU0 F (As := []) (st := []) (x := ⟨"MissedTrains$Clerk", "goes", "()V"⟩) (owner := "MissedTrains$Scribe") (metX17_goesc X e_m9) hc_m9 rfl (lw_U q806 q807 q809 q810 q125 q811) rfl hdfX17_goes ⟨by omega, by decide⟩ rfl (Nat.le_of_ble_eq_true rfl) ⟨by omega, by omega⟩ dX18_repeats_44 ?_
    refine G_aload_n F dX18_repeats_47 rfl ?_
    obtain ⟨v10, e_v10, h⟩ := bnd h
    obtain ⟨hc_v10, e_v10⟩ := hp_on_of e_v10
    refine G_callUv F (As := []) (st := []) (x := ⟨"MissedTrains$Clerk", "place", "()I"⟩) (owner := "MissedTrains$Scribe") (metX17_placec X e_v10) hc_v10 rfl (lw_U q759 q760 q762 q763 q125 q764) rfl hdfX17_place ⟨by omega, by decide⟩ rfl (Nat.le_of_ble_eq_true rfl) ⟨by omega, by omega⟩ dX18_repeats_48 ?_
    refine G_istore_n F (L2 := [some (.inr a0), some (.inl a1), some (.inl v10)]) dX18_repeats_51 (by decide) rfl ?_
    refine G_aload_n F dX18_repeats_52 rfl ?_
    obtain ⟨v11, e_v11, h⟩ := bnd h
    refine G_getR F okX18 (f := 7) (by decide) q718 rfl dX18_repeats_53 e_v11 ?_
    refine G_iload_n F dX18_repeats_56 rfl ?_
    refine G_aload_n F dX18_repeats_57 rfl ?_
    refine G_iconst F (v := (3 : Int32)) dX18_repeats_58 (by decide) ?_
    refine G_iconst F (v := (1 : Int32)) dX18_repeats_59 (by decide) ?_
    refine G_sipush F (v := (720 : Int32)) dX18_repeats_60 (by decide) ?_
    obtain ⟨⟨v12, m13⟩, e_v12, h⟩ := bnd h
    obtain ⟨hc_v12, e_v12⟩ := hp_on_of e_v12
    refine G_callUv F (As := [.inl (3 : Int32), .inl (1 : Int32), .inl (720 : Int32)]) (st := [.inl a1, .inr v11]) (x := ⟨"MissedTrains$Clerk", "number", "(III)I"⟩) (owner := "MissedTrains$Scribe") (metX17_numberc X e_v12) hc_v12 rfl (lw_U q812 q813 q815 q816 q125 q817) rfl hdfX17_number ⟨by omega, by decide⟩ rfl (Nat.le_of_ble_eq_true rfl) ⟨by omega, by omega⟩ dX18_repeats_63 ?_
    obtain ⟨m14, e_m14, h⟩ := bnd h
    refine G_iast F dX18_repeats_66 e_m14 ?_
    refine G_aload_n F dX18_repeats_67 rfl ?_
    obtain ⟨v15, e_v15, h⟩ := bnd h
    obtain ⟨hc_v15, e_v15⟩ := hp_on_of e_v15
    refine G_callUv F (As := []) (st := []) (x := ⟨"MissedTrains$Clerk", "isGood", "()Z"⟩) (owner := "MissedTrains$Scribe") (metX17_isGoodc X e_v15) hc_v15 rfl (lw_U q787 q788 q790 q791 q125 q792) rfl hdfX17_isGood ⟨by omega, by decide⟩ rfl (Nat.le_of_ble_eq_true rfl) ⟨by omega, by omega⟩ dX18_repeats_68 ?_
    refine G_if_eq F (tgt := 111) dX18_repeats_71 (by decide) (fun c16 => ?_) (fun c16 => ?_)
    · have h := itt c16 h
      cases h
      exact G_vret F rfl (Nat.le_refl _) (Nat.le_refl _) rfl dX18_repeats_111
    · have h := itf c16 h
      refine G_aload_n F dX18_repeats_74 rfl ?_
      obtain ⟨v17, e_v17, h⟩ := bnd h
      refine G_getR F okX18 (f := 5) (by decide) q716 rfl dX18_repeats_75 e_v17 ?_
      refine G_iload_n F dX18_repeats_78 rfl ?_
      obtain ⟨v18, e_v18, h⟩ := bnd h
      refine G_aald F (t := 5) (by decide) dX18_repeats_79 e_v18 ?_
      obtain ⟨v19, e_v19, h⟩ := bnd h
      obtain ⟨hc_v19, e_v19⟩ := hp_on_of e_v19
      refine G_callVv F (As := []) (st := []) (metX6_ends X e_v19) hc_v19 rfl rfl (lw_V q826 q827 q828 q108 q829) hdfX6_ends ⟨by omega, by decide⟩ rfl (Nat.le_of_ble_eq_true rfl) ⟨by omega, by omega⟩ dX18_repeats_80 ?_
      refine G_aload_n F dX18_repeats_83 rfl ?_
      obtain ⟨v20, e_v20, h⟩ := bnd h
      refine G_getR F okX18 (f := 6) (by decide) q717 rfl dX18_repeats_84 e_v20 ?_
      refine G_iload_n F dX18_repeats_87 rfl ?_
      obtain ⟨v21, e_v21, h⟩ := bnd h
      refine G_iald F dX18_repeats_88 e_v21 ?_
      refine G_iconst F (v := (1 : Int32)) dX18_repeats_89 (by decide) ?_
      refine G_isub F dX18_repeats_90 ?_
      refine G_aload_n F dX18_repeats_91 rfl ?_
      obtain ⟨v22, e_v22, h⟩ := bnd h
      refine G_getR F okX18 (f := 7) (by decide) q718 rfl dX18_repeats_92 e_v22 ?_
      refine G_iload_n F dX18_repeats_95 rfl ?_
      obtain ⟨v23, e_v23, h⟩ := bnd h
      refine G_iald F dX18_repeats_96 e_v23 ?_
      refine G_imul F dX18_repeats_97 ?_
      refine G_iadd F dX18_repeats_98 ?_
      refine G_sipush F (v := (1440 : Int32)) dX18_repeats_99 (by decide) ?_
      refine G_icmp_lt F (tgt := 111) dX18_repeats_102 (by decide) (fun c24 => ?_) (fun c24 => ?_)
      · have h := itt c24 h
        cases h
        exact G_vret F rfl (Nat.le_refl _) (Nat.le_refl _) rfl dX18_repeats_111
      · have h := itf c24 h
        refine G_aload_n F dX18_repeats_105 rfl ?_
        refine G_iconst F (v := (3 : Int32)) dX18_repeats_106 (by decide) ?_
        refine G_iload_n F dX18_repeats_107 rfl ?_
        obtain ⟨m25, e_m25, h⟩ := bnd h
        obtain ⟨hc_m25, e_m25⟩ := hp_on_of e_m25
        refine G_callU0 F (As := [.inl (3 : Int32), .inl v10]) (st := []) (x := ⟨"MissedTrains$Clerk", "bad", "(II)V"⟩) (owner := "MissedTrains$Scribe") (metX17_badc X e_m25) hc_m25 rfl (lw_U q781 q782 q784 q785 q125 q786) rfl hdfX17_bad ⟨by omega, by decide⟩ rfl (Nat.le_of_ble_eq_true rfl) ⟨by omega, by omega⟩ dX18_repeats_108 ?_
        cases h
        exact G_vret F rfl (Nat.le_refl _) (Nat.le_refl _) rfl dX18_repeats_111
  have h := hp8
  clear hp8
  refine G_if_eq F (tgt := 43) dX18_repeats_22 (by decide) (fun c26 => ?_) (fun c26 => ?_)
  · have h := itt c26 h
    have hq_ := Option.some.inj h
    exact G_sub F (L2 := [some (.inr a0), some (.inl a1), none]) ⟨rfl, ⟨rfl, trivial⟩⟩ (K8 _ hq_)
  · have h := itf c26 h
    refine G_aload_n F dX18_repeats_25 rfl ?_
    obtain ⟨v27, e_v27, h⟩ := bnd h
    obtain ⟨hc_v27, e_v27⟩ := hp_on_of e_v27
    refine G_callUv F (As := []) (st := []) (x := ⟨"MissedTrains$Clerk", "here", "()I"⟩) (owner := "MissedTrains$Scribe") (metX17_herec X e_v27) hc_v27 rfl (lw_U q798 q799 q801 q776 q125 q780) rfl hdfX17_here ⟨by omega, by decide⟩ rfl (Nat.le_of_ble_eq_true rfl) ⟨by omega, by omega⟩ dX18_repeats_26 ?_
    refine G_bipush F (v := (43 : Int32)) dX18_repeats_29 (by decide) ?_
    refine G_icmp_eq F (tgt := 43) dX18_repeats_31 (by decide) (fun c28 => ?_) (fun c28 => ?_)
    · have h := itt c28 h
      have hq_ := Option.some.inj h
      exact G_sub F (L2 := [some (.inr a0), some (.inl a1), none]) ⟨rfl, ⟨rfl, trivial⟩⟩ (K8 _ hq_)
    · have h := itf c28 h
      refine G_aload_n F dX18_repeats_34 rfl ?_
      refine G_iconst F (v := (1 : Int32)) dX18_repeats_35 (by decide) ?_
      refine G_aload_n F dX18_repeats_36 rfl ?_
      obtain ⟨v29, e_v29, h⟩ := bnd h
      obtain ⟨hc_v29, e_v29⟩ := hp_on_of e_v29
      refine G_callUv F (As := []) (st := [.inl (1 : Int32), .inr a0]) (x := ⟨"MissedTrains$Clerk", "place", "()I"⟩) (owner := "MissedTrains$Scribe") (metX17_placec X e_v29) hc_v29 rfl (lw_U q759 q760 q762 q763 q125 q764) rfl hdfX17_place ⟨by omega, by decide⟩ rfl (Nat.le_of_ble_eq_true rfl) ⟨by omega, by omega⟩ dX18_repeats_37 ?_
      obtain ⟨m30, e_m30, h⟩ := bnd h
      obtain ⟨hc_m30, e_m30⟩ := hp_on_of e_m30
      refine G_callU0 F (As := [.inl (1 : Int32), .inl v29]) (st := []) (x := ⟨"MissedTrains$Clerk", "bad", "(II)V"⟩) (owner := "MissedTrains$Scribe") (metX17_badc X e_m30) hc_m30 rfl (lw_U q781 q782 q784 q785 q125 q786) rfl hdfX17_bad ⟨by omega, by decide⟩ rfl (Nat.le_of_ble_eq_true rfl) ⟨by omega, by omega⟩ dX18_repeats_40 ?_
      have hq_ := Option.some.inj h
      exact G_sub F (L2 := [some (.inr a0), some (.inl a1), none]) ⟨rfl, ⟨rfl, trivial⟩⟩ (K8 _ hq_)

theorem metX18_line (X : Gx) {m : Hp} {nx : Nat} {a0 : Option Nat} {a1 : Int32} {m_ : Hp} {dc ds : Nat} (h : fX18_line m nx a0 a1 = some (m_, dc, ds)) : Con X (5) yX18_line cX18_line 4 ((none : Option FieldType)) [.inr a0, .inl a1] m nx none m_ dc ds := by
  refine Con.of (own := RX18) (nm := "line") (L := [some (.inr a0), some (.inl a1), none, none]) (by decide +kernel) rfl rfl (Nat.le_of_ble_eq_true rfl) (ent_of 2 rfl) ?_
  intro cx F
  refine G_aload_n F dX18_line_0 rfl ?_
  obtain ⟨v1, e_v1, h⟩ := bnd h
  obtain ⟨hc_v1, e_v1⟩ := hp_on_of e_v1
  refine G_callUv F (As := []) (st := []) (x := ⟨"MissedTrains$Clerk", "place", "()I"⟩) (owner := "MissedTrains$Scribe") (metX17_placec X e_v1) hc_v1 rfl (lw_U q759 q760 q762 q763 q125 q764) rfl hdfX17_place ⟨by omega, by decide⟩ rfl (Nat.le_of_ble_eq_true rfl) ⟨by omega, by omega⟩ dX18_line_1 ?_
  refine G_istore_n F (L2 := [some (.inr a0), some (.inl a1), some (.inl v1), none]) dX18_line_4 (by decide) rfl ?_
  refine G_aload_n F dX18_line_5 rfl ?_
  obtain ⟨v2, e_v2, h⟩ := bnd h
  obtain ⟨hc_v2, e_v2⟩ := hp_on_of e_v2
  refine G_callVv F (As := []) (st := []) (metX18_seesStation X e_v2) hc_v2 rfl rfl (lw_V q765 q767 qs15 q126 q768) hdfX18_seesStation ⟨by omega, by decide⟩ rfl (Nat.le_of_ble_eq_true rfl) ⟨by omega, by omega⟩ dX18_line_6 ?_
  obtain ⟨⟨p4, d4, c4⟩, hp4, h⟩ := bnd h
  obtain ⟨D5, C5, h, hD5, hC5⟩ := andA_of h; try dsimp only at hD5 hC5
  have K4 : ∀ (m3 : Hp), m3 = p4 → G X cx 4 (Qm X cx none m_ nx dc ds) (0 + d4) (0 + c4) m3 (nx + d4) [some (.inr a0), some (.inl a1), some (.inl v1), none] [] 24 := by
    intro m3 hq
    subst hq
    try dsimp only at h
    refine G_aload_n F dX18_line_24 rfl ?_
    obtain ⟨v6, e_v6, h⟩ := bnd h
    obtain ⟨hc_v6, e_v6⟩ := hp_on_of e_v6
    refine G_callUv F (As := []) (st := []) (x := ⟨"MissedTrains$Clerk", "isGood", "()Z"⟩) (owner := "MissedTrains$Scribe") (metX17_isGoodc X e_v6) hc_v6 rfl (lw_U q787 q788 q790 q791 q125 q792) rfl hdfX17_isGood ⟨by omega, by decide⟩ rfl (Nat.le_of_ble_eq_true rfl) ⟨by omega, by omega⟩ dX18_line_25 ?_
    refine G_if_ne F (tgt := 32) dX18_line_28 (by decide) (fun c7 => ?_) (fun c7 => ?_)
    · have h := itf c7 h
      obtain ⟨m8, e_m8, h⟩ := bnd h
      obtain ⟨D9, C9, h, hD9, hC9⟩ := andA_of h; try dsimp only at hD9 hC9
      refine G_newc F okX6 (fs := dfX6) q715 q290 q108 (by decide) (by omega) (by omega) dX18_line_32 e_m8 ?_
      refine G_dup F dX18_line_35 ?_
      obtain ⟨⟨m10, d11, c12⟩, e_m10, h⟩ := bnd h
      obtain ⟨D13, C13, h, hD13, hC13⟩ := andA_of h; try dsimp only at hD13 hC13
      refine G_callIN0 F (As := []) (st := [.inr (some (nx + d4))]) (metX6_init X e_m10) q293 q108 q793 q292 rfl hdfX6_init ⟨by omega, by decide⟩ rfl (Nat.le_of_ble_eq_true rfl) ⟨by omega, by omega⟩ dX18_line_36 ?_
      refine G_astore_n F (L2 := [some (.inr a0), some (.inl a1), some (.inl v1), some (.inr (some (nx + d4)))]) dX18_line_39 (by decide) rfl ?_
      refine G_aload_n F dX18_line_40 rfl ?_
      refine G_aload_n F dX18_line_41 rfl ?_
      obtain ⟨m14, e_m14, h⟩ := bnd h
      obtain ⟨hc_m14, e_m14⟩ := hp_on_of e_m14
      refine G_callV0 F (As := [.inr (some (nx + d4))]) (st := []) (metX18_stop X e_m14) hc_m14 rfl rfl (lw_V q794 q796 qs16 q126 q797) hdfX18_stop ⟨by omega, by decide⟩ rfl (Nat.le_of_ble_eq_true rfl) ⟨by omega, by omega⟩ dX18_line_42 ?_
      refine G_aload_n F dX18_line_45 rfl ?_
      obtain ⟨v15, e_v15, h⟩ := bnd h
      obtain ⟨hc_v15, e_v15⟩ := hp_on_of e_v15
      refine G_callUv F (As := []) (st := []) (x := ⟨"MissedTrains$Clerk", "isGood", "()Z"⟩) (owner := "MissedTrains$Scribe") (metX17_isGoodc X e_v15) hc_v15 rfl (lw_U q787 q788 q790 q791 q125 q792) rfl hdfX17_isGood ⟨by omega, by decide⟩ rfl (Nat.le_of_ble_eq_true rfl) ⟨by omega, by omega⟩ dX18_line_46 ?_
      obtain ⟨⟨p17, d17, c17⟩, hp17, h⟩ := bnd h
      obtain ⟨D18, C18, h, hD18, hC18⟩ := andA_of h; try dsimp only at hD18 hC18
      have K17 : ∀ (m16 : Hp), m16 = p17 → G X cx 4 (Qm X cx none m_ nx dc ds) (0 + d4 + 1 + d11 + d17) (0 + c4 + 5 + c12 + c17) m16 (nx + d4 + 1 + d11 + d17) [some (.inr a0), some (.inl a1), some (.inl v1), some (.inr (some (nx + d4)))] [] 57 := by
        intro m16 hq
        subst hq
        try dsimp only at h
        obtain ⟨⟨r19, e19, f19⟩, hr19, h⟩ := bnd h
        obtain ⟨D26, C26, h, hD26, hC26⟩ := andA_of h; try dsimp only at hD26 hC26
        have KE19 : ∀ (m25 : Hp), m25 = r19 → G X cx 4 (Qm X cx none m_ nx dc ds) (0 + d4 + 1 + d11 + d17 + e19) (0 + c4 + 5 + c12 + c17 + f19) m25 (nx + d4 + 1 + d11 + d17 + e19) [some (.inr a0), some (.inl a1), some (.inl v1), some (.inr (some (nx + d4)))] [] 79 := by
          intro m25 hq
          subst hq
          try dsimp only at h
          refine G_aload_n F dX18_line_79 rfl ?_
          obtain ⟨v27, e_v27, h⟩ := bnd h
          obtain ⟨hc_v27, e_v27⟩ := hp_on_of e_v27
          refine G_callUv F (As := []) (st := []) (x := ⟨"MissedTrains$Clerk", "isGood", "()Z"⟩) (owner := "MissedTrains$Scribe") (metX17_isGoodc X e_v27) hc_v27 rfl (lw_U q787 q788 q790 q791 q125 q792) rfl hdfX17_isGood ⟨by omega, by decide⟩ rfl (Nat.le_of_ble_eq_true rfl) ⟨by omega, by omega⟩ dX18_line_80 ?_
          refine G_if_ne F (tgt := 87) dX18_line_83 (by decide) (fun c28 => ?_) (fun c28 => ?_)
          · have h := itf c28 h
            refine G_aload_n F dX18_line_87 rfl ?_
            obtain ⟨v29, e_v29, h⟩ := bnd h
            refine G_getR F okX18 (f := 5) (by decide) q716 rfl dX18_line_88 e_v29 ?_
            refine G_iload_n F dX18_line_91 rfl ?_
            refine G_aload_n F dX18_line_92 rfl ?_
            obtain ⟨m30, e_m30, h⟩ := bnd h
            refine G_aast F (t := 5) (by decide) rfl dX18_line_93 e_m30 ?_
            refine G_aload_n F dX18_line_94 rfl ?_
            obtain ⟨v31, e_v31, h⟩ := bnd h
            refine G_getR F okX18 (f := 6) (by decide) q717 rfl dX18_line_95 e_v31 ?_
            refine G_iload_n F dX18_line_98 rfl ?_
            refine G_iconst F (v := (1 : Int32)) dX18_line_99 (by decide) ?_
            obtain ⟨m32, e_m32, h⟩ := bnd h
            refine G_iast F dX18_line_100 e_m32 ?_
            refine G_aload_n F dX18_line_101 rfl ?_
            obtain ⟨v33, e_v33, h⟩ := bnd h
            obtain ⟨hc_v33, e_v33⟩ := hp_on_of e_v33
            refine G_callUv F (As := []) (st := []) (x := ⟨"MissedTrains$Clerk", "isGood", "()Z"⟩) (owner := "MissedTrains$Scribe") (metX17_isGoodc X e_v33) hc_v33 rfl (lw_U q787 q788 q790 q791 q125 q792) rfl hdfX17_isGood ⟨by omega, by decide⟩ rfl (Nat.le_of_ble_eq_true rfl) ⟨by omega, by omega⟩ dX18_line_102 ?_
            obtain ⟨⟨p35, d35, c35⟩, hp35, h⟩ := bnd h
            obtain ⟨D36, C36, h, hD36, hC36⟩ := andA_of h; try dsimp only at hD36 hC36
            have K35 : ∀ (m34 : Hp), m34 = p35 → G X cx 4 (Qm X cx none m_ nx dc ds) (0 + d4 + 1 + d11 + d17 + e19 + d35) (0 + c4 + 5 + c12 + c17 + f19 + c35) m34 (nx + d4 + 1 + d11 + d17 + e19 + d35) [some (.inr a0), some (.inl a1), some (.inl v1), none] [] 122 := by
              intro m34 hq
              subst hq
              try dsimp only at h
              refine G_aload_n F dX18_line_122 rfl ?_
              refine G_dup F dX18_line_123 ?_
              obtain ⟨v37, e_v37, h⟩ := bnd h
              refine G_getI F okX18 (f := 8) (by decide) q719 rfl dX18_line_124 e_v37 ?_
              refine G_aload_n F dX18_line_127 rfl ?_
              obtain ⟨v38, e_v38, h⟩ := bnd h
              refine G_getR F okX18 (f := 6) (by decide) q717 rfl dX18_line_128 e_v38 ?_
              refine G_iload_n F dX18_line_131 rfl ?_
              obtain ⟨v39, e_v39, h⟩ := bnd h
              refine G_iald F dX18_line_132 e_v39 ?_
              refine G_iadd F dX18_line_133 ?_
              obtain ⟨m40, e_m40, h⟩ := bnd h
              refine G_putV F okX18 (f := 8) (by decide) q719 rfl rfl dX18_line_134 (vfit_int _) e_m40 ?_
              refine G_aload_n F dX18_line_137 rfl ?_
              obtain ⟨v41, e_v41, h⟩ := bnd h
              obtain ⟨hc_v41, e_v41⟩ := hp_on_of e_v41
              refine G_callUv F (As := []) (st := []) (x := ⟨"MissedTrains$Clerk", "isGood", "()Z"⟩) (owner := "MissedTrains$Scribe") (metX17_isGoodc X e_v41) hc_v41 rfl (lw_U q787 q788 q790 q791 q125 q792) rfl hdfX17_isGood ⟨by omega, by decide⟩ rfl (Nat.le_of_ble_eq_true rfl) ⟨by omega, by omega⟩ dX18_line_138 ?_
              refine G_if_eq F (tgt := 160) dX18_line_141 (by decide) (fun c42 => ?_) (fun c42 => ?_)
              · have h := itt c42 h
                cases h
                exact G_vret F rfl (by omega) (by omega) (by omega) dX18_line_160
              · have h := itf c42 h
                refine G_aload_n F dX18_line_144 rfl ?_
                obtain ⟨v43, e_v43, h⟩ := bnd h
                refine G_getI F okX18 (f := 8) (by decide) q719 rfl dX18_line_145 e_v43 ?_
                refine G_bipush F (v := (48 : Int32)) dX18_line_148 (by decide) ?_
                refine G_icmp_le F (tgt := 160) dX18_line_150 (by decide) (fun c44 => ?_) (fun c44 => ?_)
                · have h := itt c44 h
                  cases h
                  exact G_vret F rfl (by omega) (by omega) (by omega) dX18_line_160
                · have h := itf c44 h
                  refine G_aload_n F dX18_line_153 rfl ?_
                  refine G_bipush F (v := (8 : Int32)) dX18_line_154 (by decide) ?_
                  refine G_iload_n F dX18_line_156 rfl ?_
                  obtain ⟨m45, e_m45, h⟩ := bnd h
                  obtain ⟨hc_m45, e_m45⟩ := hp_on_of e_m45
                  refine G_callU0 F (As := [.inl (8 : Int32), .inl v1]) (st := []) (x := ⟨"MissedTrains$Clerk", "bad", "(II)V"⟩) (owner := "MissedTrains$Scribe") (metX17_badc X e_m45) hc_m45 rfl (lw_U q781 q782 q784 q785 q125 q786) rfl hdfX17_bad ⟨by omega, by decide⟩ rfl (Nat.le_of_ble_eq_true rfl) ⟨by omega, by omega⟩ dX18_line_157 ?_
                  cases h
                  exact G_vret F rfl (by omega) (by omega) (by omega) dX18_line_160
            have h := hp35
            clear hp35
            refine G_if_eq F (tgt := 122) dX18_line_105 (by decide) (fun c46 => ?_) (fun c46 => ?_)
            · have h := itt c46 h
              obtain ⟨hq_, hd_, hc_⟩ := lf3 h
              exact G_cnt (G_sub F (L2 := [some (.inr a0), some (.inl a1), some (.inl v1), none]) ⟨rfl, ⟨rfl, ⟨rfl, trivial⟩⟩⟩ (K35 _ hq_)) (by omega) (by omega) (by omega)
            · have h := itf c46 h
              refine G_aload_n F dX18_line_108 rfl ?_
              obtain ⟨v47, e_v47, h⟩ := bnd h
              obtain ⟨hc_v47, e_v47⟩ := hp_on_of e_v47
              refine G_callUv F (As := []) (st := []) (x := ⟨"MissedTrains$Clerk", "here", "()I"⟩) (owner := "MissedTrains$Scribe") (metX17_herec X e_v47) hc_v47 rfl (lw_U q798 q799 q801 q776 q125 q780) rfl hdfX17_here ⟨by omega, by decide⟩ rfl (Nat.le_of_ble_eq_true rfl) ⟨by omega, by omega⟩ dX18_line_109 ?_
              refine G_bipush F (v := (120 : Int32)) dX18_line_112 (by decide) ?_
              refine G_icmp_ne F (tgt := 122) dX18_line_114 (by decide) (fun c48 => ?_) (fun c48 => ?_)
              · have h := itf c48 h
                obtain ⟨hq_, hd_, hc_⟩ := lf3 h
                exact G_cnt (G_sub F (L2 := [some (.inr a0), some (.inl a1), some (.inl v1), none]) ⟨rfl, ⟨rfl, ⟨rfl, trivial⟩⟩⟩ (K35 _ hq_)) (by omega) (by omega) (by omega)
              · have h := itt c48 h
                refine G_aload_n F dX18_line_117 rfl ?_
                refine G_iload_n F dX18_line_118 rfl ?_
                obtain ⟨m49, e_m49, h⟩ := bnd h
                obtain ⟨hc_m49, e_m49⟩ := hp_on_of e_m49
                refine G_callV0 F (As := [.inl a1]) (st := []) (metX18_repeats X e_m49) hc_m49 rfl rfl (lw_V q822 q824 qs17 q126 q825) hdfX18_repeats ⟨by omega, by decide⟩ rfl (Nat.le_of_ble_eq_true rfl) ⟨by omega, by omega⟩ dX18_line_119 ?_
                obtain ⟨hq_, hd_, hc_⟩ := lf3 h
                exact G_cnt (G_sub F (L2 := [some (.inr a0), some (.inl a1), some (.inl v1), none]) ⟨rfl, ⟨rfl, ⟨rfl, trivial⟩⟩⟩ (K35 _ hq_)) (by omega) (by omega) (by omega)
          · have h := itt c28 h
            cases h
            exact G_vret F rfl (by omega) (by omega) (by omega) dX18_line_86
        have KB19 : ∀ s nx19 k19 n19 o19 d19 c19, fX18_line_L57 a0 a1 v1 (some (nx + d4)) s nx19 = some (o19, d19, c19) → k19 + d19 ≤ dc → n19 + c19 ≤ ds → (∀ s', o19 = Sum.inl s' → (fun (s : Hp) nx19 k19 n19 => match s with | m19 => G X cx 4 (Qm X cx none m_ nx dc ds) (k19) (n19) m19 (nx19) [some (.inr a0), some (.inl a1), some (.inl v1), some (.inr (some (nx + d4)))] [] 57) s' (nx19 + d19) (k19 + d19) (n19 + c19)) → (∀ q, o19 = Sum.inr q → (fun q a_ b_ c_ => q = r19 ∧ a_ = nx + d4 + 1 + d11 + d17 + e19 ∧ b_ = 0 + d4 + 1 + d11 + d17 + e19 ∧ c_ = 0 + c4 + 5 + c12 + c17 + f19) q (nx19 + d19) (k19 + d19) (n19 + c19)) → (fun (s : Hp) nx19 k19 n19 => match s with | m19 => G X cx 4 (Qm X cx none m_ nx dc ds) (k19) (n19) m19 (nx19) [some (.inr a0), some (.inl a1), some (.inl v1), some (.inr (some (nx + d4)))] [] 57) s nx19 k19 n19 := by
          intro s nx19 k19 n19 o19 d19 c19 h hk19 hn19 hP19 hE19
          obtain ⟨m19, hs_⟩ : ∃ x, x = s := ⟨_, rfl⟩
          subst hs_
          try dsimp only at hP19 hE19 ⊢
          refine G_aload_n F dX18_line_57 rfl ?_
          obtain ⟨v20, e_v20, h⟩ := bnd h
          obtain ⟨hc_v20, e_v20⟩ := hp_on_of e_v20
          refine G_callUv F (As := []) (st := []) (x := ⟨"MissedTrains$Clerk", "isGood", "()Z"⟩) (owner := "MissedTrains$Scribe") (metX17_isGoodc X e_v20) hc_v20 rfl (lw_U q787 q788 q790 q791 q125 q792) rfl hdfX17_isGood ⟨by omega, by decide⟩ rfl (Nat.le_of_ble_eq_true rfl) ⟨by omega, by omega⟩ dX18_line_58 ?_
          refine G_if_eq F (tgt := 79) dX18_line_61 (by decide) (fun c21 => ?_) (fun c21 => ?_)
          · have h := itt c21 h
            cases h
            obtain ⟨q0_, q1_, q2_, q3_⟩ := hE19 _ rfl
            exact G_cnt (G_sub F (L2 := [some (.inr a0), some (.inl a1), some (.inl v1), some (.inr (some (nx + d4)))]) ⟨rfl, ⟨rfl, ⟨rfl, ⟨rfl, trivial⟩⟩⟩⟩ (KE19 _ q0_)) (by omega) (by omega) (by omega)
          · have h := itf c21 h
            refine G_aload_n F dX18_line_64 rfl ?_
            obtain ⟨v22, e_v22, h⟩ := bnd h
            obtain ⟨hc_v22, e_v22⟩ := hp_on_of e_v22
            refine G_callVv F (As := []) (st := []) (metX18_seesStation X e_v22) hc_v22 rfl rfl (lw_V q765 q767 qs15 q126 q768) hdfX18_seesStation ⟨by omega, by decide⟩ rfl (Nat.le_of_ble_eq_true rfl) ⟨by omega, by omega⟩ dX18_line_65 ?_
            refine G_if_eq F (tgt := 79) dX18_line_68 (by decide) (fun c23 => ?_) (fun c23 => ?_)
            · have h := itt c23 h
              cases h
              obtain ⟨q0_, q1_, q2_, q3_⟩ := hE19 _ rfl
              exact G_cnt (G_sub F (L2 := [some (.inr a0), some (.inl a1), some (.inl v1), some (.inr (some (nx + d4)))]) ⟨rfl, ⟨rfl, ⟨rfl, ⟨rfl, trivial⟩⟩⟩⟩ (KE19 _ q0_)) (by omega) (by omega) (by omega)
            · have h := itf c23 h
              refine G_aload_n F dX18_line_71 rfl ?_
              refine G_aload_n F dX18_line_72 rfl ?_
              obtain ⟨m24, e_m24, h⟩ := bnd h
              obtain ⟨hc_m24, e_m24⟩ := hp_on_of e_m24
              refine G_callV0 F (As := [.inr (some (nx + d4))]) (st := []) (metX18_stop X e_m24) hc_m24 rfl rfl (lw_V q794 q796 qs16 q126 q797) hdfX18_stop ⟨by omega, by decide⟩ rfl (Nat.le_of_ble_eq_true rfl) ⟨by omega, by omega⟩ dX18_line_73 ?_
              refine G_goto F (tgt := 57) dX18_line_76 (by decide) ?_
              cases h
              exact G_cnt (G_sub F (L2 := [some (.inr a0), some (.inl a1), some (.inl v1), some (.inr (some (nx + d4)))]) ⟨rfl, ⟨rfl, ⟨rfl, ⟨rfl, trivial⟩⟩⟩⟩ (hP19 _ rfl)) (by omega) (by omega) (by omega)
        have hI := iterA_ok dc ds (fun (s : Hp) nx19 k19 n19 => match s with | m19 => G X cx 4 (Qm X cx none m_ nx dc ds) (k19) (n19) m19 (nx19) [some (.inr a0), some (.inl a1), some (.inl v1), some (.inr (some (nx + d4)))] [] 57) (fun q a_ b_ c_ => q = r19 ∧ a_ = nx + d4 + 1 + d11 + d17 + e19 ∧ b_ = 0 + d4 + 1 + d11 + d17 + e19 ∧ c_ = 0 + c4 + 5 + c12 + c17 + f19) KB19 _ _ _ _ _ _ _ _ hr19 (by omega) (by omega) ⟨rfl, rfl, rfl, rfl⟩
        exact G_sub F (L2 := [some (.inr a0), some (.inl a1), some (.inl v1), some (.inr (some (nx + d4)))]) ⟨rfl, ⟨rfl, ⟨rfl, ⟨rfl, trivial⟩⟩⟩⟩ hI
      have h := hp17
      clear hp17
      refine G_if_eq F (tgt := 57) dX18_line_49 (by decide) (fun c50 => ?_) (fun c50 => ?_)
      · have h := itt c50 h
        obtain ⟨hq_, hd_, hc_⟩ := lf3 h
        exact G_cnt (G_sub F (L2 := [some (.inr a0), some (.inl a1), some (.inl v1), some (.inr (some (nx + d4)))]) ⟨rfl, ⟨rfl, ⟨rfl, ⟨rfl, trivial⟩⟩⟩⟩ (K17 _ hq_)) (by omega) (by omega) (by omega)
      · have h := itf c50 h
        refine G_aload_n F dX18_line_52 rfl ?_
        refine G_aload_n F dX18_line_53 rfl ?_
        obtain ⟨m51, e_m51, h⟩ := bnd h
        obtain ⟨hc_m51, e_m51⟩ := hp_on_of e_m51
        refine G_callV0 F (As := [.inr (some (nx + d4))]) (st := []) (metX18_stop X e_m51) hc_m51 rfl rfl (lw_V q794 q796 qs16 q126 q797) hdfX18_stop ⟨by omega, by decide⟩ rfl (Nat.le_of_ble_eq_true rfl) ⟨by omega, by omega⟩ dX18_line_54 ?_
        obtain ⟨hq_, hd_, hc_⟩ := lf3 h
        exact G_cnt (G_sub F (L2 := [some (.inr a0), some (.inl a1), some (.inl v1), some (.inr (some (nx + d4)))]) ⟨rfl, ⟨rfl, ⟨rfl, ⟨rfl, trivial⟩⟩⟩⟩ (K17 _ hq_)) (by omega) (by omega) (by omega)
    · have h := itt c7 h
      cases h
      exact G_vret F rfl (by omega) (by omega) (by omega) dX18_line_31
  have h := hp4
  clear hp4
  refine G_if_eq F (tgt := 24) dX18_line_9 (by decide) (fun c52 => ?_) (fun c52 => ?_)
  · have h := itt c52 h
    obtain ⟨hq_, hd_, hc_⟩ := lf3 h
    exact G_cnt (G_sub F (L2 := [some (.inr a0), some (.inl a1), some (.inl v1), none]) ⟨rfl, ⟨rfl, ⟨rfl, trivial⟩⟩⟩ (K4 _ hq_)) (by omega) (by omega) (by omega)
  · have h := itf c52 h
    refine G_iload_n F dX18_line_12 rfl ?_
    refine G_bipush F (v := (16 : Int32)) dX18_line_13 (by decide) ?_
    refine G_icmp_ne F (tgt := 24) dX18_line_15 (by decide) (fun c53 => ?_) (fun c53 => ?_)
    · have h := itf c53 h
      obtain ⟨hq_, hd_, hc_⟩ := lf3 h
      exact G_cnt (G_sub F (L2 := [some (.inr a0), some (.inl a1), some (.inl v1), none]) ⟨rfl, ⟨rfl, ⟨rfl, trivial⟩⟩⟩ (K4 _ hq_)) (by omega) (by omega) (by omega)
    · have h := itt c53 h
      refine G_aload_n F dX18_line_18 rfl ?_
      refine G_iconst F (v := (4 : Int32)) dX18_line_19 (by decide) ?_
      refine G_iload_n F dX18_line_20 rfl ?_
      obtain ⟨m54, e_m54, h⟩ := bnd h
      obtain ⟨hc_m54, e_m54⟩ := hp_on_of e_m54
      refine G_callU0 F (As := [.inl (4 : Int32), .inl v1]) (st := []) (x := ⟨"MissedTrains$Clerk", "bad", "(II)V"⟩) (owner := "MissedTrains$Scribe") (metX17_badc X e_m54) hc_m54 rfl (lw_U q781 q782 q784 q785 q125 q786) rfl hdfX17_bad ⟨by omega, by decide⟩ rfl (Nat.le_of_ble_eq_true rfl) ⟨by omega, by omega⟩ dX18_line_21 ?_
      obtain ⟨hq_, hd_, hc_⟩ := lf3 h
      exact G_cnt (G_sub F (L2 := [some (.inr a0), some (.inl a1), some (.inl v1), none]) ⟨rfl, ⟨rfl, ⟨rfl, trivial⟩⟩⟩ (K4 _ hq_)) (by omega) (by omega) (by omega)

theorem metX19_line (X : Gx) {m : Hp} {nx : Nat} {a0 : Option Nat} {a1 : Int32} {m_ : Hp} (h : fX19_line m a0 a1 = some m_) : Con X (4) yX19_line cX19_line 6 ((none : Option FieldType)) [.inr a0, .inl a1] m nx none m_ 0 0 := by
  refine Con.of (own := RX19) (nm := "line") (L := [some (.inr a0), some (.inl a1), none, none, none, none]) (by decide +kernel) rfl rfl (Nat.le_of_ble_eq_true rfl) (ent_of 4 rfl) ?_
  intro cx F
  refine G_aload_n F dX19_line_0 rfl ?_
  obtain ⟨v1, e_v1, h⟩ := bnd h
  obtain ⟨hc_v1, e_v1⟩ := hp_on_of e_v1
  refine G_callUv F (As := []) (st := []) (x := ⟨"MissedTrains$Porter", "place", "()I"⟩) (owner := "MissedTrains$Scribe") (metX17_placep X e_v1) hc_v1 rfl (lw_U q833 q834 q835 q763 q125 q764) rfl hdfX17_place ⟨by omega, by decide⟩ rfl (Nat.le_of_ble_eq_true rfl) ⟨by omega, by omega⟩ dX19_line_1 ?_
  refine G_istore_n F (L2 := [some (.inr a0), some (.inl a1), some (.inl v1), none, none, none]) dX19_line_4 (by decide) rfl ?_
  refine G_aload_n F dX19_line_5 rfl ?_
  refine G_bipush F (v := (48 : Int32)) dX19_line_6 (by decide) ?_
  refine G_bipush F (v := (57 : Int32)) dX19_line_8 (by decide) ?_
  obtain ⟨v2, e_v2, h⟩ := bnd h
  obtain ⟨hc_v2, e_v2⟩ := hp_on_of e_v2
  refine G_callUv F (As := [.inl (48 : Int32), .inl (57 : Int32)]) (st := []) (x := ⟨"MissedTrains$Porter", "sees", "(II)Z"⟩) (owner := "MissedTrains$Scribe") (metX17_seesp X e_v2) hc_v2 rfl (lw_U q836 q837 q838 q773 q125 q774) rfl hdfX17_sees ⟨by omega, by decide⟩ rfl (Nat.le_of_ble_eq_true rfl) ⟨by omega, by omega⟩ dX19_line_10 ?_
  obtain ⟨p4, hp4, h⟩ := bnd h
  have K4 : ∀ (m3 : Hp), m3 = p4 → G X cx 6 (Qm X cx none m_ nx 0 0) (0) (0) m3 (nx) [some (.inr a0), none, some (.inl v1), none, none, none] [] 28 := by
    intro m3 hq
    subst hq
    try dsimp only at h
    refine G_aload_n F dX19_line_28 rfl ?_
    refine G_iconst F (v := (2 : Int32)) dX19_line_29 (by decide) ?_
    refine G_iconst F (v := (0 : Int32)) dX19_line_30 (by decide) ?_
    refine G_sipush F (v := (10059 : Int32)) dX19_line_31 (by decide) ?_
    obtain ⟨⟨v5, m6⟩, e_v5, h⟩ := bnd h
    obtain ⟨hc_v5, e_v5⟩ := hp_on_of e_v5
    refine G_callUv F (As := [.inl (2 : Int32), .inl (0 : Int32), .inl (10059 : Int32)]) (st := []) (x := ⟨"MissedTrains$Porter", "number", "(III)I"⟩) (owner := "MissedTrains$Scribe") (metX17_numberp X e_v5) hc_v5 rfl (lw_U q842 q843 q844 q816 q125 q817) rfl hdfX17_number ⟨by omega, by decide⟩ rfl (Nat.le_of_ble_eq_true rfl) ⟨by omega, by omega⟩ dX19_line_34 ?_
    refine G_istore_n F (L2 := [some (.inr a0), none, some (.inl v1), some (.inl v5), none, none]) dX19_line_37 (by decide) rfl ?_
    refine G_aload_n F dX19_line_38 rfl ?_
    obtain ⟨v7, e_v7, h⟩ := bnd h
    obtain ⟨hc_v7, e_v7⟩ := hp_on_of e_v7
    refine G_callUv F (As := []) (st := []) (x := ⟨"MissedTrains$Porter", "isGood", "()Z"⟩) (owner := "MissedTrains$Scribe") (metX17_isGoodp X e_v7) hc_v7 rfl (lw_U q845 q846 q847 q791 q125 q792) rfl hdfX17_isGood ⟨by omega, by decide⟩ rfl (Nat.le_of_ble_eq_true rfl) ⟨by omega, by omega⟩ dX19_line_39 ?_
    obtain ⟨p9, hp9, h⟩ := bnd h
    have K9 : ∀ (m8 : Hp), m8 = p9 → G X cx 6 (Qm X cx none m_ nx 0 0) (0) (0) m8 (nx) [some (.inr a0), none, none, some (.inl v5), none, none] [] 63 := by
      intro m8 hq
      subst hq
      try dsimp only at h
      refine G_aload_n F dX19_line_63 rfl ?_
      obtain ⟨v10, e_v10, h⟩ := bnd h
      obtain ⟨hc_v10, e_v10⟩ := hp_on_of e_v10
      refine G_callUv F (As := []) (st := []) (x := ⟨"MissedTrains$Porter", "here", "()I"⟩) (owner := "MissedTrains$Scribe") (metX17_herep X e_v10) hc_v10 rfl (lw_U q852 q853 q854 q776 q125 q780) rfl hdfX17_here ⟨by omega, by decide⟩ rfl (Nat.le_of_ble_eq_true rfl) ⟨by omega, by omega⟩ dX19_line_64 ?_
      refine G_istore F (L2 := [some (.inr a0), none, none, some (.inl v5), some (.inl v10), none]) dX19_line_67 (by decide) rfl ?_
      refine G_aload_n F dX19_line_69 rfl ?_
      obtain ⟨v11, e_v11, h⟩ := bnd h
      obtain ⟨hc_v11, e_v11⟩ := hp_on_of e_v11
      refine G_callUv F (As := []) (st := []) (x := ⟨"MissedTrains$Porter", "isGood", "()Z"⟩) (owner := "MissedTrains$Scribe") (metX17_isGoodp X e_v11) hc_v11 rfl (lw_U q845 q846 q847 q791 q125 q792) rfl hdfX17_isGood ⟨by omega, by decide⟩ rfl (Nat.le_of_ble_eq_true rfl) ⟨by omega, by omega⟩ dX19_line_70 ?_
      obtain ⟨p13, hp13, h⟩ := bnd h
      have K13 : ∀ (m12 : Hp), m12 = p13 → G X cx 6 (Qm X cx none m_ nx 0 0) (0) (0) m12 (nx) [some (.inr a0), none, none, some (.inl v5), some (.inl v10), none] [] 106 := by
        intro m12 hq
        subst hq
        try dsimp only at h
        refine G_aload_n F dX19_line_106 rfl ?_
        obtain ⟨m14, e_m14, h⟩ := bnd h
        obtain ⟨hc_m14, e_m14⟩ := hp_on_of e_m14
        refine G_callU0 F (As := []) (st := []) (x := ⟨"MissedTrains$Porter", "goes", "()V"⟩) (owner := "MissedTrains$Scribe") (metX17_goesp X e_m14) hc_m14 rfl (lw_U q855 q856 q857 q810 q125 q811) rfl hdfX17_goes ⟨by omega, by decide⟩ rfl (Nat.le_of_ble_eq_true rfl) ⟨by omega, by omega⟩ dX19_line_107 ?_
        refine G_aload_n F dX19_line_110 rfl ?_
        obtain ⟨v15, e_v15, h⟩ := bnd h
        obtain ⟨hc_v15, e_v15⟩ := hp_on_of e_v15
        refine G_callUv F (As := []) (st := []) (x := ⟨"MissedTrains$Porter", "isGood", "()Z"⟩) (owner := "MissedTrains$Scribe") (metX17_isGoodp X e_v15) hc_v15 rfl (lw_U q845 q846 q847 q791 q125 q792) rfl hdfX17_isGood ⟨by omega, by decide⟩ rfl (Nat.le_of_ble_eq_true rfl) ⟨by omega, by omega⟩ dX19_line_111 ?_
        obtain ⟨p18, hp18, h⟩ := bnd h
        have K18 : ∀ (v16 : Int32) (m17 : Hp), (v16, m17) = p18 → G X cx 6 (Qm X cx none m_ nx 0 0) (0) (0) m17 (nx) [some (.inr a0), none, none, some (.inl v5), some (.inl v10), none] [.inl v16] 137 := by
          intro v16 m17 hq
          subst hq
          try dsimp only at h
          refine G_istore F (L2 := [some (.inr a0), none, none, some (.inl v5), some (.inl v10), some (.inl v16)]) dX19_line_137 (by decide) rfl ?_
          refine G_aload_n F dX19_line_139 rfl ?_
          obtain ⟨v19, e_v19, h⟩ := bnd h
          obtain ⟨hc_v19, e_v19⟩ := hp_on_of e_v19
          refine G_callUv F (As := []) (st := []) (x := ⟨"MissedTrains$Porter", "isGood", "()Z"⟩) (owner := "MissedTrains$Scribe") (metX17_isGoodp X e_v19) hc_v19 rfl (lw_U q845 q846 q847 q791 q125 q792) rfl hdfX17_isGood ⟨by omega, by decide⟩ rfl (Nat.le_of_ble_eq_true rfl) ⟨by omega, by omega⟩ dX19_line_140 ?_
          refine G_if_ne F (tgt := 147) dX19_line_143 (by decide) (fun c20 => ?_) (fun c20 => ?_)
          · have h := itf c20 h
            refine G_iload F dX19_line_147 rfl ?_
            refine G_bipush F (v := (43 : Int32)) dX19_line_149 (by decide) ?_
            refine G_icmp_ne F (tgt := 165) dX19_line_151 (by decide) (fun c21 => ?_) (fun c21 => ?_)
            · have h := itf c21 h
              refine G_aload_n F dX19_line_165 rfl ?_
              obtain ⟨v22, e_v22, h⟩ := bnd h
              refine G_getR F okX19 (f := 6) (by decide) q885 rfl dX19_line_166 e_v22 ?_
              refine G_iload_n F dX19_line_169 rfl ?_
              refine G_iload F dX19_line_170 rfl ?_
              refine G_bipush F (v := (63 : Int32)) dX19_line_172 (by decide) ?_
              refine G_icmp_ne F (tgt := 181) dX19_line_174 (by decide) (fun c23 => ?_) (fun c23 => ?_)
              · have h := itf c23 h
                refine G_iconst F (v := (0 : Int32)) dX19_line_181 (by decide) ?_
                obtain ⟨m24, e_m24, h⟩ := bnd h
                refine G_zast F dX19_line_182 e_m24 ?_
                cases h
                exact G_vret F rfl (Nat.le_refl _) (Nat.le_refl _) rfl dX19_line_183
              · have h := itt c23 h
                refine G_iconst F (v := (1 : Int32)) dX19_line_177 (by decide) ?_
                refine G_goto F (tgt := 182) dX19_line_178 (by decide) ?_
                obtain ⟨m25, e_m25, h⟩ := bnd h
                refine G_zast F dX19_line_182 e_m25 ?_
                cases h
                exact G_vret F rfl (Nat.le_refl _) (Nat.le_refl _) rfl dX19_line_183
            · have h := itt c21 h
              refine G_aload_n F dX19_line_154 rfl ?_
              obtain ⟨v26, e_v26, h⟩ := bnd h
              refine G_getR F okX19 (f := 5) (by decide) q884 rfl dX19_line_155 e_v26 ?_
              refine G_iload_n F dX19_line_158 rfl ?_
              refine G_iload F dX19_line_159 rfl ?_
              obtain ⟨m27, e_m27, h⟩ := bnd h
              refine G_iast F dX19_line_161 e_m27 ?_
              refine G_goto F (tgt := 183) dX19_line_162 (by decide) ?_
              cases h
              exact G_vret F rfl (Nat.le_refl _) (Nat.le_refl _) rfl dX19_line_183
          · have h := itt c20 h
            cases h
            exact G_vret F rfl (Nat.le_refl _) (Nat.le_refl _) rfl dX19_line_146
        have h := hp18
        clear hp18
        refine G_if_eq F (tgt := 136) dX19_line_114 (by decide) (fun c28 => ?_) (fun c28 => ?_)
        · have h := itt c28 h
          refine G_iconst F (v := (0 : Int32)) dX19_line_136 (by decide) ?_
          have hq_ := Option.some.inj h
          exact G_sub F (L2 := [some (.inr a0), none, none, some (.inl v5), some (.inl v10), none]) ⟨rfl, ⟨rfl, ⟨rfl, trivial⟩⟩⟩ (K18 _ _ hq_)
        · have h := itf c28 h
          refine G_iload F dX19_line_117 rfl ?_
          refine G_bipush F (v := (43 : Int32)) dX19_line_119 (by decide) ?_
          refine G_icmp_ne F (tgt := 136) dX19_line_121 (by decide) (fun c29 => ?_) (fun c29 => ?_)
          · have h := itf c29 h
            refine G_iconst F (v := (0 : Int32)) dX19_line_136 (by decide) ?_
            have hq_ := Option.some.inj h
            exact G_sub F (L2 := [some (.inr a0), none, none, some (.inl v5), some (.inl v10), none]) ⟨rfl, ⟨rfl, ⟨rfl, trivial⟩⟩⟩ (K18 _ _ hq_)
          · have h := itt c29 h
            refine G_aload_n F dX19_line_124 rfl ?_
            refine G_iconst F (v := (2 : Int32)) dX19_line_125 (by decide) ?_
            refine G_iconst F (v := (0 : Int32)) dX19_line_126 (by decide) ?_
            refine G_sipush F (v := (9999 : Int32)) dX19_line_127 (by decide) ?_
            obtain ⟨⟨v30, m31⟩, e_v30, h⟩ := bnd h
            obtain ⟨hc_v30, e_v30⟩ := hp_on_of e_v30
            refine G_callUv F (As := [.inl (2 : Int32), .inl (0 : Int32), .inl (9999 : Int32)]) (st := []) (x := ⟨"MissedTrains$Porter", "number", "(III)I"⟩) (owner := "MissedTrains$Scribe") (metX17_numberp X e_v30) hc_v30 rfl (lw_U q842 q843 q844 q816 q125 q817) rfl hdfX17_number ⟨by omega, by decide⟩ rfl (Nat.le_of_ble_eq_true rfl) ⟨by omega, by omega⟩ dX19_line_130 ?_
            refine G_goto F (tgt := 137) dX19_line_133 (by decide) ?_
            have hq_ := Option.some.inj h
            exact G_sub F (L2 := [some (.inr a0), none, none, some (.inl v5), some (.inl v10), none]) ⟨rfl, ⟨rfl, ⟨rfl, trivial⟩⟩⟩ (K18 _ _ hq_)
      have h := hp13
      clear hp13
      refine G_if_eq F (tgt := 106) dX19_line_73 (by decide) (fun c32 => ?_) (fun c32 => ?_)
      · have h := itt c32 h
        have hq_ := Option.some.inj h
        exact G_sub F (L2 := [some (.inr a0), none, none, some (.inl v5), some (.inl v10), none]) ⟨rfl, ⟨rfl, ⟨rfl, trivial⟩⟩⟩ (K13 _ hq_)
      · have h := itf c32 h
        refine G_iload F dX19_line_76 rfl ?_
        refine G_bipush F (v := (33 : Int32)) dX19_line_78 (by decide) ?_
        refine G_icmp_eq F (tgt := 106) dX19_line_80 (by decide) (fun c33 => ?_) (fun c33 => ?_)
        · have h := itt c33 h
          have hq_ := Option.some.inj h
          exact G_sub F (L2 := [some (.inr a0), none, none, some (.inl v5), some (.inl v10), none]) ⟨rfl, ⟨rfl, ⟨rfl, trivial⟩⟩⟩ (K13 _ hq_)
        · have h := itf c33 h
          refine G_iload F dX19_line_83 rfl ?_
          refine G_bipush F (v := (63 : Int32)) dX19_line_85 (by decide) ?_
          refine G_icmp_eq F (tgt := 106) dX19_line_87 (by decide) (fun c34 => ?_) (fun c34 => ?_)
          · have h := itt c34 h
            have hq_ := Option.some.inj h
            exact G_sub F (L2 := [some (.inr a0), none, none, some (.inl v5), some (.inl v10), none]) ⟨rfl, ⟨rfl, ⟨rfl, trivial⟩⟩⟩ (K13 _ hq_)
          · have h := itf c34 h
            refine G_iload F dX19_line_90 rfl ?_
            refine G_bipush F (v := (43 : Int32)) dX19_line_92 (by decide) ?_
            refine G_icmp_eq F (tgt := 106) dX19_line_94 (by decide) (fun c35 => ?_) (fun c35 => ?_)
            · have h := itt c35 h
              have hq_ := Option.some.inj h
              exact G_sub F (L2 := [some (.inr a0), none, none, some (.inl v5), some (.inl v10), none]) ⟨rfl, ⟨rfl, ⟨rfl, trivial⟩⟩⟩ (K13 _ hq_)
            · have h := itf c35 h
              refine G_aload_n F dX19_line_97 rfl ?_
              refine G_iconst F (v := (1 : Int32)) dX19_line_98 (by decide) ?_
              refine G_aload_n F dX19_line_99 rfl ?_
              obtain ⟨v36, e_v36, h⟩ := bnd h
              obtain ⟨hc_v36, e_v36⟩ := hp_on_of e_v36
              refine G_callUv F (As := []) (st := [.inl (1 : Int32), .inr a0]) (x := ⟨"MissedTrains$Porter", "place", "()I"⟩) (owner := "MissedTrains$Scribe") (metX17_placep X e_v36) hc_v36 rfl (lw_U q833 q834 q835 q763 q125 q764) rfl hdfX17_place ⟨by omega, by decide⟩ rfl (Nat.le_of_ble_eq_true rfl) ⟨by omega, by omega⟩ dX19_line_100 ?_
              obtain ⟨m37, e_m37, h⟩ := bnd h
              obtain ⟨hc_m37, e_m37⟩ := hp_on_of e_m37
              refine G_callU0 F (As := [.inl (1 : Int32), .inl v36]) (st := []) (x := ⟨"MissedTrains$Porter", "bad", "(II)V"⟩) (owner := "MissedTrains$Scribe") (metX17_badp X e_m37) hc_m37 rfl (lw_U q839 q840 q841 q785 q125 q786) rfl hdfX17_bad ⟨by omega, by decide⟩ rfl (Nat.le_of_ble_eq_true rfl) ⟨by omega, by omega⟩ dX19_line_103 ?_
              have hq_ := Option.some.inj h
              exact G_sub F (L2 := [some (.inr a0), none, none, some (.inl v5), some (.inl v10), none]) ⟨rfl, ⟨rfl, ⟨rfl, trivial⟩⟩⟩ (K13 _ hq_)
    have h := hp9
    clear hp9
    refine G_if_eq F (tgt := 63) dX19_line_42 (by decide) (fun c38 => ?_) (fun c38 => ?_)
    · have h := itt c38 h
      have hq_ := Option.some.inj h
      exact G_sub F (L2 := [some (.inr a0), none, none, some (.inl v5), none, none]) ⟨rfl, ⟨rfl, trivial⟩⟩ (K9 _ hq_)
    · have h := itf c38 h
      refine G_aload_n F dX19_line_45 rfl ?_
      obtain ⟨v39, e_v39, h⟩ := bnd h
      refine G_getR F okX19 (f := 7) (by decide) q886 rfl dX19_line_46 e_v39 ?_
      refine G_iload_n F dX19_line_49 rfl ?_
      obtain ⟨v40, e_v40, h⟩ := bnd h
      obtain ⟨hc_v40, e_v40⟩ := hp_on_of e_v40
      refine G_callVNv F (As := [.inl v5]) (st := []) (metX0_isTrain X e_v40) hc_v40 rfl rfl q851 q102 q848 q850 qs18 hdfX0_isTrain ⟨by omega, by decide⟩ rfl (Nat.le_of_ble_eq_true rfl) ⟨by omega, by omega⟩ dX19_line_50 ?_
      refine G_if_ne F (tgt := 63) dX19_line_53 (by decide) (fun c41 => ?_) (fun c41 => ?_)
      · have h := itf c41 h
        have hq_ := Option.some.inj h
        exact G_sub F (L2 := [some (.inr a0), none, none, some (.inl v5), none, none]) ⟨rfl, ⟨rfl, trivial⟩⟩ (K9 _ hq_)
      · have h := itt c41 h
        refine G_aload_n F dX19_line_56 rfl ?_
        refine G_bipush F (v := (7 : Int32)) dX19_line_57 (by decide) ?_
        refine G_iload_n F dX19_line_59 rfl ?_
        obtain ⟨m42, e_m42, h⟩ := bnd h
        obtain ⟨hc_m42, e_m42⟩ := hp_on_of e_m42
        refine G_callU0 F (As := [.inl (7 : Int32), .inl v1]) (st := []) (x := ⟨"MissedTrains$Porter", "bad", "(II)V"⟩) (owner := "MissedTrains$Scribe") (metX17_badp X e_m42) hc_m42 rfl (lw_U q839 q840 q841 q785 q125 q786) rfl hdfX17_bad ⟨by omega, by decide⟩ rfl (Nat.le_of_ble_eq_true rfl) ⟨by omega, by omega⟩ dX19_line_60 ?_
        have hq_ := Option.some.inj h
        exact G_sub F (L2 := [some (.inr a0), none, none, some (.inl v5), none, none]) ⟨rfl, ⟨rfl, trivial⟩⟩ (K9 _ hq_)
  have h := hp4
  clear hp4
  refine G_if_eq F (tgt := 28) dX19_line_13 (by decide) (fun c43 => ?_) (fun c43 => ?_)
  · have h := itt c43 h
    have hq_ := Option.some.inj h
    exact G_sub F (L2 := [some (.inr a0), none, some (.inl v1), none, none, none]) ⟨rfl, ⟨rfl, trivial⟩⟩ (K4 _ hq_)
  · have h := itf c43 h
    refine G_iload_n F dX19_line_16 rfl ?_
    refine G_bipush F (v := (20 : Int32)) dX19_line_17 (by decide) ?_
    refine G_icmp_ne F (tgt := 28) dX19_line_19 (by decide) (fun c44 => ?_) (fun c44 => ?_)
    · have h := itf c44 h
      have hq_ := Option.some.inj h
      exact G_sub F (L2 := [some (.inr a0), none, some (.inl v1), none, none, none]) ⟨rfl, ⟨rfl, trivial⟩⟩ (K4 _ hq_)
    · have h := itt c44 h
      refine G_aload_n F dX19_line_22 rfl ?_
      refine G_iconst F (v := (4 : Int32)) dX19_line_23 (by decide) ?_
      refine G_iload_n F dX19_line_24 rfl ?_
      obtain ⟨m45, e_m45, h⟩ := bnd h
      obtain ⟨hc_m45, e_m45⟩ := hp_on_of e_m45
      refine G_callU0 F (As := [.inl (4 : Int32), .inl v1]) (st := []) (x := ⟨"MissedTrains$Porter", "bad", "(II)V"⟩) (owner := "MissedTrains$Scribe") (metX17_badp X e_m45) hc_m45 rfl (lw_U q839 q840 q841 q785 q125 q786) rfl hdfX17_bad ⟨by omega, by decide⟩ rfl (Nat.le_of_ble_eq_true rfl) ⟨by omega, by omega⟩ dX19_line_25 ?_
      have hq_ := Option.some.inj h
      exact G_sub F (L2 := [some (.inr a0), none, some (.inl v1), none, none, none]) ⟨rfl, ⟨rfl, trivial⟩⟩ (K4 _ hq_)

theorem metX17_readc (X : Gx) {m : Hp} {nx : Nat} {a0 : Option Nat} {rv : Int32} {m_ : Hp} {dc ds : Nat} (h : fX17_read 14 m nx a0 = some ((rv, m_), dc, ds)) : Con X (6) yX17_read cX17_read 2 ((Option.some FieldType.int)) [.inr a0] m nx (some (.inl rv)) m_ dc ds := by
  refine Con.of (own := RX17) (nm := "read") (L := [some (.inr a0), none]) (by decide +kernel) rfl rfl (Nat.le_of_ble_eq_true rfl) (ent_of 1 rfl) ?_
  intro cx F
  refine G_aload_n F dX17_read_0 rfl ?_
  refine G_iconst F (v := (0 : Int32)) dX17_read_1 (by decide) ?_
  obtain ⟨⟨m1, d2, c3⟩, e_m1, h⟩ := bnd h
  obtain ⟨D4, C4, h, hD4, hC4⟩ := andA_of h; try dsimp only at hD4 hC4
  obtain ⟨hc_m1, e_m1⟩ := hp_on_of e_m1
  have e_m1 := lineC_of e_m1
  refine G_callA0 F (As := [.inl (0 : Int32)]) (st := []) (x := ⟨"MissedTrains$Scribe", "line", "(I)V"⟩) (owner := "MissedTrains$Scribe") (metX18_line X e_m1) hc_m1 rfl (lw_U q753 q755 q756 q757 q126 q758) q754 hdA_line ⟨by omega, by decide⟩ rfl (Nat.le_of_ble_eq_true rfl) ⟨by omega, by omega⟩ dX17_read_2 ?_
  refine G_iconst F (v := (1 : Int32)) dX17_read_5 (by decide) ?_
  refine G_istore_n F (L2 := [some (.inr a0), some (.inl (1 : Int32))]) dX17_read_6 (by decide) rfl ?_
  obtain ⟨⟨r5, e5, f5⟩, hr5, h⟩ := bnd h
  obtain ⟨D28, C28, h, hD28, hC28⟩ := andA_of h; try dsimp only at hD28 hC28
  have KE5 : ∀ (v26 : Int32) (m27 : Hp), (v26, m27) = r5 → G X cx 2 (Qm X cx (some (.inl rv)) m_ nx dc ds) (0 + d2 + e5) (0 + c3 + f5) m27 (nx + d2 + e5) [some (.inr a0), some (.inl v26)] [] 71 := by
    intro v26 m27 hq
    subst hq
    try dsimp only at h
    refine G_aload_n F dX17_read_71 rfl ?_
    obtain ⟨v29, e_v29, h⟩ := bnd h
    obtain ⟨hc_v29, e_v29⟩ := hp_on_of e_v29
    refine G_callUv F (As := []) (st := []) (x := ⟨"MissedTrains$Scribe", "isGood", "()Z"⟩) (owner := "MissedTrains$Scribe") (metX17_isGoodc X e_v29) hc_v29 rfl (lw_U q818 q1822 q1823 q791 q125 q792) rfl hdfX17_isGood ⟨by omega, by decide⟩ rfl (Nat.le_of_ble_eq_true rfl) ⟨by omega, by omega⟩ dX17_read_72 ?_
    refine G_if_eq F (tgt := 82) dX17_read_75 (by decide) (fun c30 => ?_) (fun c30 => ?_)
    · have h := itt c30 h
      refine G_sipush F (v := (-1000 : Int32)) dX17_read_82 (by decide) ?_
      refine G_aload_n F dX17_read_85 rfl ?_
      obtain ⟨v31, e_v31, h⟩ := bnd h
      refine G_getI F okX18 (f := 2) (by decide) q723 rfl dX17_read_86 e_v31 ?_
      refine G_imul F dX17_read_89 ?_
      refine G_aload_n F dX17_read_90 rfl ?_
      obtain ⟨v32, e_v32, h⟩ := bnd h
      refine G_getI F okX18 (f := 3) (by decide) q724 rfl dX17_read_91 e_v32 ?_
      refine G_isub F dX17_read_94 ?_
      cases h
      exact G_iret F rfl (by omega) (by omega) (by omega) dX17_read_95
    · have h := itf c30 h
      refine G_iload_n F dX17_read_78 rfl ?_
      refine G_goto F (tgt := 95) dX17_read_79 (by decide) ?_
      cases h
      exact G_iret F rfl (by omega) (by omega) (by omega) dX17_read_95
  have KB5 : ∀ s nx5 k5 n5 o5 d5 c5, fX17_read_L7 14 a0 s nx5 = some (o5, d5, c5) → k5 + d5 ≤ dc → n5 + c5 ≤ ds → (∀ s', o5 = Sum.inl s' → (fun (s : (Int32 × Hp)) nx5 k5 n5 => match s with | (s1_5, m5) => G X cx 2 (Qm X cx (some (.inl rv)) m_ nx dc ds) (k5) (n5) m5 (nx5) [some (.inr a0), some (.inl s1_5)] [] 7) s' (nx5 + d5) (k5 + d5) (n5 + c5)) → (∀ q, o5 = Sum.inr q → (fun q a_ b_ c_ => q = r5 ∧ a_ = nx + d2 + e5 ∧ b_ = 0 + d2 + e5 ∧ c_ = 0 + c3 + f5) q (nx5 + d5) (k5 + d5) (n5 + c5)) → (fun (s : (Int32 × Hp)) nx5 k5 n5 => match s with | (s1_5, m5) => G X cx 2 (Qm X cx (some (.inl rv)) m_ nx dc ds) (k5) (n5) m5 (nx5) [some (.inr a0), some (.inl s1_5)] [] 7) s nx5 k5 n5 := by
    intro s nx5 k5 n5 o5 d5 c5 h hk5 hn5 hP5 hE5
    obtain ⟨s1_5, m5⟩ := s
    try dsimp only at hP5 hE5 ⊢
    refine G_aload_n F dX17_read_7 rfl ?_
    obtain ⟨v6, e_v6, h⟩ := bnd h
    obtain ⟨hc_v6, e_v6⟩ := hp_on_of e_v6
    refine G_callUv F (As := []) (st := []) (x := ⟨"MissedTrains$Scribe", "isGood", "()Z"⟩) (owner := "MissedTrains$Scribe") (metX17_isGoodc X e_v6) hc_v6 rfl (lw_U q818 q1822 q1823 q791 q125 q792) rfl hdfX17_isGood ⟨by omega, by decide⟩ rfl (Nat.le_of_ble_eq_true rfl) ⟨by omega, by omega⟩ dX17_read_8 ?_
    refine G_if_eq F (tgt := 71) dX17_read_11 (by decide) (fun c7 => ?_) (fun c7 => ?_)
    · have h := itt c7 h
      cases h
      obtain ⟨q0_, q1_, q2_, q3_⟩ := hE5 _ rfl
      exact G_cnt (G_sub F (L2 := [some (.inr a0), some (.inl s1_5)]) ⟨rfl, ⟨rfl, trivial⟩⟩ (KE5 _ _ q0_)) (by omega) (by omega) (by omega)
    · have h := itf c7 h
      refine G_aload_n F dX17_read_14 rfl ?_
      obtain ⟨v8, e_v8, h⟩ := bnd h
      refine G_getI F okX18 (f := 1) (by decide) q722 rfl dX17_read_15 e_v8 ?_
      refine G_aload_n F dX17_read_18 rfl ?_
      obtain ⟨v9, e_v9, h⟩ := bnd h
      refine G_getI F okX18 (f := 0) (by decide) q721 rfl dX17_read_19 e_v9 ?_
      refine G_icmp_ge F (tgt := 71) dX17_read_22 (by decide) (fun c10 => ?_) (fun c10 => ?_)
      · have h := itt c10 h
        cases h
        obtain ⟨q0_, q1_, q2_, q3_⟩ := hE5 _ rfl
        exact G_cnt (G_sub F (L2 := [some (.inr a0), some (.inl s1_5)]) ⟨rfl, ⟨rfl, trivial⟩⟩ (KE5 _ _ q0_)) (by omega) (by omega) (by omega)
      · have h := itf c10 h
        refine G_aload_n F dX17_read_25 rfl ?_
        obtain ⟨v11, e_v11, h⟩ := bnd h
        obtain ⟨hc_v11, e_v11⟩ := hp_on_of e_v11
        refine G_callUv F (As := []) (st := []) (x := ⟨"MissedTrains$Scribe", "here", "()I"⟩) (owner := "MissedTrains$Scribe") (metX17_herec X e_v11) hc_v11 rfl (lw_U q775 q777 q778 q776 q125 q780) rfl hdfX17_here ⟨by omega, by decide⟩ rfl (Nat.le_of_ble_eq_true rfl) ⟨by omega, by omega⟩ dX17_read_26 ?_
        refine G_bipush F (v := (59 : Int32)) dX17_read_29 (by decide) ?_
        obtain ⟨⟨p13, d13, c13⟩, hp13, h⟩ := bnd h
        obtain ⟨D14, C14, h, hD14, hC14⟩ := andA_of h; try dsimp only at hD14 hC14
        have K13 : ∀ (m12 : Hp), m12 = p13 → G X cx 2 (Qm X cx (some (.inl rv)) m_ nx dc ds) (k5 + d13) (n5 + c13) m12 (nx5 + d13) [some (.inr a0), some (.inl s1_5)] [] 43 := by
          intro m12 hq
          subst hq
          try dsimp only at h
          refine G_aload_n F dX17_read_43 rfl ?_
          refine G_dup F dX17_read_44 ?_
          obtain ⟨v15, e_v15, h⟩ := bnd h
          refine G_getI F okX18 (f := 1) (by decide) q722 rfl dX17_read_45 e_v15 ?_
          refine G_iconst F (v := (1 : Int32)) dX17_read_48 (by decide) ?_
          refine G_iadd F dX17_read_49 ?_
          obtain ⟨m16, e_m16, h⟩ := bnd h
          refine G_putV F okX18 (f := 1) (by decide) q722 rfl rfl dX17_read_50 (vfit_int _) e_m16 ?_
          refine G_aload_n F dX17_read_53 rfl ?_
          obtain ⟨v17, e_v17, h⟩ := bnd h
          obtain ⟨hc_v17, e_v17⟩ := hp_on_of e_v17
          refine G_callUv F (As := []) (st := []) (x := ⟨"MissedTrains$Scribe", "isGood", "()Z"⟩) (owner := "MissedTrains$Scribe") (metX17_isGoodc X e_v17) hc_v17 rfl (lw_U q818 q1822 q1823 q791 q125 q792) rfl hdfX17_isGood ⟨by omega, by decide⟩ rfl (Nat.le_of_ble_eq_true rfl) ⟨by omega, by omega⟩ dX17_read_54 ?_
          refine G_if_eq F (tgt := 65) dX17_read_57 (by decide) (fun c18 => ?_) (fun c18 => ?_)
          · have h := itt c18 h
            refine G_iinc F (v := (s1_5 + (1 : Int32))) (L2 := [some (.inr a0), some (.inl (s1_5 + (1 : Int32)))]) dX17_read_65 (by decide) rfl rfl rfl ?_
            refine G_goto F (tgt := 7) dX17_read_68 (by decide) ?_
            cases h
            exact G_cnt (G_sub F (L2 := [some (.inr a0), some (.inl (s1_5 + (1 : Int32)))]) ⟨rfl, ⟨rfl, trivial⟩⟩ (hP5 _ rfl)) (by omega) (by omega) (by omega)
          · have h := itf c18 h
            refine G_aload_n F dX17_read_60 rfl ?_
            refine G_iload_n F dX17_read_61 rfl ?_
            obtain ⟨⟨m19, d20, c21⟩, e_m19, h⟩ := bnd h
            obtain ⟨D22, C22, h, hD22, hC22⟩ := andA_of h; try dsimp only at hD22 hC22
            obtain ⟨hc_m19, e_m19⟩ := hp_on_of e_m19
            have e_m19 := lineC_of e_m19
            refine G_callA0 F (As := [.inl s1_5]) (st := []) (x := ⟨"MissedTrains$Scribe", "line", "(I)V"⟩) (owner := "MissedTrains$Scribe") (metX18_line X e_m19) hc_m19 rfl (lw_U q753 q755 q756 q757 q126 q758) q754 hdA_line ⟨by omega, by decide⟩ rfl (Nat.le_of_ble_eq_true rfl) ⟨by omega, by omega⟩ dX17_read_62 ?_
            refine G_iinc F (v := (s1_5 + (1 : Int32))) (L2 := [some (.inr a0), some (.inl (s1_5 + (1 : Int32)))]) dX17_read_65 (by decide) rfl rfl rfl ?_
            refine G_goto F (tgt := 7) dX17_read_68 (by decide) ?_
            cases h
            exact G_cnt (G_sub F (L2 := [some (.inr a0), some (.inl (s1_5 + (1 : Int32)))]) ⟨rfl, ⟨rfl, trivial⟩⟩ (hP5 _ rfl)) (by omega) (by omega) (by omega)
        have h := hp13
        clear hp13
        refine G_icmp_eq F (tgt := 43) dX17_read_31 (by decide) (fun c23 => ?_) (fun c23 => ?_)
        · have h := itt c23 h
          obtain ⟨hq_, hd_, hc_⟩ := lf3 h
          exact G_cnt (G_sub F (L2 := [some (.inr a0), some (.inl s1_5)]) ⟨rfl, ⟨rfl, trivial⟩⟩ (K13 _ hq_)) (by omega) (by omega) (by omega)
        · have h := itf c23 h
          refine G_aload_n F dX17_read_34 rfl ?_
          refine G_iconst F (v := (1 : Int32)) dX17_read_35 (by decide) ?_
          refine G_aload_n F dX17_read_36 rfl ?_
          obtain ⟨v24, e_v24, h⟩ := bnd h
          refine G_getI F okX18 (f := 1) (by decide) q722 rfl dX17_read_37 e_v24 ?_
          obtain ⟨m25, e_m25, h⟩ := bnd h
          obtain ⟨hc_m25, e_m25⟩ := hp_on_of e_m25
          refine G_callU0 F (As := [.inl (1 : Int32), .inl v24]) (st := []) (x := ⟨"MissedTrains$Scribe", "bad", "(II)V"⟩) (owner := "MissedTrains$Scribe") (metX17_badc X e_m25) hc_m25 rfl (lw_U q820 q1828 q1829 q785 q125 q786) rfl hdfX17_bad ⟨by omega, by decide⟩ rfl (Nat.le_of_ble_eq_true rfl) ⟨by omega, by omega⟩ dX17_read_40 ?_
          obtain ⟨hq_, hd_, hc_⟩ := lf3 h
          exact G_cnt (G_sub F (L2 := [some (.inr a0), some (.inl s1_5)]) ⟨rfl, ⟨rfl, trivial⟩⟩ (K13 _ hq_)) (by omega) (by omega) (by omega)
  have hI := iterA_ok dc ds (fun (s : (Int32 × Hp)) nx5 k5 n5 => match s with | (s1_5, m5) => G X cx 2 (Qm X cx (some (.inl rv)) m_ nx dc ds) (k5) (n5) m5 (nx5) [some (.inr a0), some (.inl s1_5)] [] 7) (fun q a_ b_ c_ => q = r5 ∧ a_ = nx + d2 + e5 ∧ b_ = 0 + d2 + e5 ∧ c_ = 0 + c3 + f5) KB5 _ _ _ _ _ _ _ _ hr5 (by omega) (by omega) ⟨rfl, rfl, rfl, rfl⟩
  exact G_sub F (L2 := [some (.inr a0), some (.inl (1 : Int32))]) ⟨rfl, ⟨rfl, trivial⟩⟩ hI

theorem metX17_readp (X : Gx) {m : Hp} {nx : Nat} {a0 : Option Nat} {rv : Int32} {m_ : Hp} {dc ds : Nat} (h : fX17_read 15 m nx a0 = some ((rv, m_), dc, ds)) : Con X (6) yX17_read cX17_read 2 ((Option.some FieldType.int)) [.inr a0] m nx (some (.inl rv)) m_ dc ds := by
  refine Con.of (own := RX17) (nm := "read") (L := [some (.inr a0), none]) (by decide +kernel) rfl rfl (Nat.le_of_ble_eq_true rfl) (ent_of 1 rfl) ?_
  intro cx F
  refine G_aload_n F dX17_read_0 rfl ?_
  refine G_iconst F (v := (0 : Int32)) dX17_read_1 (by decide) ?_
  obtain ⟨⟨m1, d2, c3⟩, e_m1, h⟩ := bnd h
  obtain ⟨D4, C4, h, hD4, hC4⟩ := andA_of h; try dsimp only at hD4 hC4
  obtain ⟨hc_m1, e_m1⟩ := hp_on_of e_m1
  obtain ⟨e_m1, hz1_, hz2_⟩ := lineP_of e_m1
  refine G_callA0 F (As := [.inl (0 : Int32)]) (st := []) (x := ⟨"MissedTrains$Scribe", "line", "(I)V"⟩) (owner := "MissedTrains$Scribe") (metX19_line X e_m1) hc_m1 rfl (lw_U q753 q755 q830 q831 q127 q832) q754 hdA_line ⟨by omega, by decide⟩ rfl (Nat.le_of_ble_eq_true rfl) ⟨by omega, by omega⟩ dX17_read_2 ?_
  refine G_cnt (k2 := 0 + d2) (n2 := 0 + c3) (nx2 := nx + d2) ?_ (by omega) (by omega) (by omega)
  refine G_iconst F (v := (1 : Int32)) dX17_read_5 (by decide) ?_
  refine G_istore_n F (L2 := [some (.inr a0), some (.inl (1 : Int32))]) dX17_read_6 (by decide) rfl ?_
  obtain ⟨⟨r5, e5, f5⟩, hr5, h⟩ := bnd h
  obtain ⟨D28, C28, h, hD28, hC28⟩ := andA_of h; try dsimp only at hD28 hC28
  have KE5 : ∀ (v26 : Int32) (m27 : Hp), (v26, m27) = r5 → G X cx 2 (Qm X cx (some (.inl rv)) m_ nx dc ds) (0 + d2 + e5) (0 + c3 + f5) m27 (nx + d2 + e5) [some (.inr a0), some (.inl v26)] [] 71 := by
    intro v26 m27 hq
    subst hq
    try dsimp only at h
    refine G_aload_n F dX17_read_71 rfl ?_
    obtain ⟨v29, e_v29, h⟩ := bnd h
    obtain ⟨hc_v29, e_v29⟩ := hp_on_of e_v29
    refine G_callUv F (As := []) (st := []) (x := ⟨"MissedTrains$Scribe", "isGood", "()Z"⟩) (owner := "MissedTrains$Scribe") (metX17_isGoodp X e_v29) hc_v29 rfl (lw_U q818 q1822 q1824 q791 q125 q792) rfl hdfX17_isGood ⟨by omega, by decide⟩ rfl (Nat.le_of_ble_eq_true rfl) ⟨by omega, by omega⟩ dX17_read_72 ?_
    refine G_if_eq F (tgt := 82) dX17_read_75 (by decide) (fun c30 => ?_) (fun c30 => ?_)
    · have h := itt c30 h
      refine G_sipush F (v := (-1000 : Int32)) dX17_read_82 (by decide) ?_
      refine G_aload_n F dX17_read_85 rfl ?_
      obtain ⟨v31, e_v31, h⟩ := bnd h
      refine G_getI F okX19 (f := 2) (by decide) q723 rfl dX17_read_86 e_v31 ?_
      refine G_imul F dX17_read_89 ?_
      refine G_aload_n F dX17_read_90 rfl ?_
      obtain ⟨v32, e_v32, h⟩ := bnd h
      refine G_getI F okX19 (f := 3) (by decide) q724 rfl dX17_read_91 e_v32 ?_
      refine G_isub F dX17_read_94 ?_
      cases h
      exact G_iret F rfl (by omega) (by omega) (by omega) dX17_read_95
    · have h := itf c30 h
      refine G_iload_n F dX17_read_78 rfl ?_
      refine G_goto F (tgt := 95) dX17_read_79 (by decide) ?_
      cases h
      exact G_iret F rfl (by omega) (by omega) (by omega) dX17_read_95
  have KB5 : ∀ s nx5 k5 n5 o5 d5 c5, fX17_read_L7 15 a0 s nx5 = some (o5, d5, c5) → k5 + d5 ≤ dc → n5 + c5 ≤ ds → (∀ s', o5 = Sum.inl s' → (fun (s : (Int32 × Hp)) nx5 k5 n5 => match s with | (s1_5, m5) => G X cx 2 (Qm X cx (some (.inl rv)) m_ nx dc ds) (k5) (n5) m5 (nx5) [some (.inr a0), some (.inl s1_5)] [] 7) s' (nx5 + d5) (k5 + d5) (n5 + c5)) → (∀ q, o5 = Sum.inr q → (fun q a_ b_ c_ => q = r5 ∧ a_ = nx + d2 + e5 ∧ b_ = 0 + d2 + e5 ∧ c_ = 0 + c3 + f5) q (nx5 + d5) (k5 + d5) (n5 + c5)) → (fun (s : (Int32 × Hp)) nx5 k5 n5 => match s with | (s1_5, m5) => G X cx 2 (Qm X cx (some (.inl rv)) m_ nx dc ds) (k5) (n5) m5 (nx5) [some (.inr a0), some (.inl s1_5)] [] 7) s nx5 k5 n5 := by
    intro s nx5 k5 n5 o5 d5 c5 h hk5 hn5 hP5 hE5
    obtain ⟨s1_5, m5⟩ := s
    try dsimp only at hP5 hE5 ⊢
    refine G_aload_n F dX17_read_7 rfl ?_
    obtain ⟨v6, e_v6, h⟩ := bnd h
    obtain ⟨hc_v6, e_v6⟩ := hp_on_of e_v6
    refine G_callUv F (As := []) (st := []) (x := ⟨"MissedTrains$Scribe", "isGood", "()Z"⟩) (owner := "MissedTrains$Scribe") (metX17_isGoodp X e_v6) hc_v6 rfl (lw_U q818 q1822 q1824 q791 q125 q792) rfl hdfX17_isGood ⟨by omega, by decide⟩ rfl (Nat.le_of_ble_eq_true rfl) ⟨by omega, by omega⟩ dX17_read_8 ?_
    refine G_if_eq F (tgt := 71) dX17_read_11 (by decide) (fun c7 => ?_) (fun c7 => ?_)
    · have h := itt c7 h
      cases h
      obtain ⟨q0_, q1_, q2_, q3_⟩ := hE5 _ rfl
      exact G_cnt (G_sub F (L2 := [some (.inr a0), some (.inl s1_5)]) ⟨rfl, ⟨rfl, trivial⟩⟩ (KE5 _ _ q0_)) (by omega) (by omega) (by omega)
    · have h := itf c7 h
      refine G_aload_n F dX17_read_14 rfl ?_
      obtain ⟨v8, e_v8, h⟩ := bnd h
      refine G_getI F okX19 (f := 1) (by decide) q722 rfl dX17_read_15 e_v8 ?_
      refine G_aload_n F dX17_read_18 rfl ?_
      obtain ⟨v9, e_v9, h⟩ := bnd h
      refine G_getI F okX19 (f := 0) (by decide) q721 rfl dX17_read_19 e_v9 ?_
      refine G_icmp_ge F (tgt := 71) dX17_read_22 (by decide) (fun c10 => ?_) (fun c10 => ?_)
      · have h := itt c10 h
        cases h
        obtain ⟨q0_, q1_, q2_, q3_⟩ := hE5 _ rfl
        exact G_cnt (G_sub F (L2 := [some (.inr a0), some (.inl s1_5)]) ⟨rfl, ⟨rfl, trivial⟩⟩ (KE5 _ _ q0_)) (by omega) (by omega) (by omega)
      · have h := itf c10 h
        refine G_aload_n F dX17_read_25 rfl ?_
        obtain ⟨v11, e_v11, h⟩ := bnd h
        obtain ⟨hc_v11, e_v11⟩ := hp_on_of e_v11
        refine G_callUv F (As := []) (st := []) (x := ⟨"MissedTrains$Scribe", "here", "()I"⟩) (owner := "MissedTrains$Scribe") (metX17_herep X e_v11) hc_v11 rfl (lw_U q775 q777 q779 q776 q125 q780) rfl hdfX17_here ⟨by omega, by decide⟩ rfl (Nat.le_of_ble_eq_true rfl) ⟨by omega, by omega⟩ dX17_read_26 ?_
        refine G_bipush F (v := (59 : Int32)) dX17_read_29 (by decide) ?_
        obtain ⟨⟨p13, d13, c13⟩, hp13, h⟩ := bnd h
        obtain ⟨D14, C14, h, hD14, hC14⟩ := andA_of h; try dsimp only at hD14 hC14
        have K13 : ∀ (m12 : Hp), m12 = p13 → G X cx 2 (Qm X cx (some (.inl rv)) m_ nx dc ds) (k5 + d13) (n5 + c13) m12 (nx5 + d13) [some (.inr a0), some (.inl s1_5)] [] 43 := by
          intro m12 hq
          subst hq
          try dsimp only at h
          refine G_aload_n F dX17_read_43 rfl ?_
          refine G_dup F dX17_read_44 ?_
          obtain ⟨v15, e_v15, h⟩ := bnd h
          refine G_getI F okX19 (f := 1) (by decide) q722 rfl dX17_read_45 e_v15 ?_
          refine G_iconst F (v := (1 : Int32)) dX17_read_48 (by decide) ?_
          refine G_iadd F dX17_read_49 ?_
          obtain ⟨m16, e_m16, h⟩ := bnd h
          refine G_putV F okX19 (f := 1) (by decide) q722 rfl rfl dX17_read_50 (vfit_int _) e_m16 ?_
          refine G_aload_n F dX17_read_53 rfl ?_
          obtain ⟨v17, e_v17, h⟩ := bnd h
          obtain ⟨hc_v17, e_v17⟩ := hp_on_of e_v17
          refine G_callUv F (As := []) (st := []) (x := ⟨"MissedTrains$Scribe", "isGood", "()Z"⟩) (owner := "MissedTrains$Scribe") (metX17_isGoodp X e_v17) hc_v17 rfl (lw_U q818 q1822 q1824 q791 q125 q792) rfl hdfX17_isGood ⟨by omega, by decide⟩ rfl (Nat.le_of_ble_eq_true rfl) ⟨by omega, by omega⟩ dX17_read_54 ?_
          refine G_if_eq F (tgt := 65) dX17_read_57 (by decide) (fun c18 => ?_) (fun c18 => ?_)
          · have h := itt c18 h
            refine G_iinc F (v := (s1_5 + (1 : Int32))) (L2 := [some (.inr a0), some (.inl (s1_5 + (1 : Int32)))]) dX17_read_65 (by decide) rfl rfl rfl ?_
            refine G_goto F (tgt := 7) dX17_read_68 (by decide) ?_
            cases h
            exact G_cnt (G_sub F (L2 := [some (.inr a0), some (.inl (s1_5 + (1 : Int32)))]) ⟨rfl, ⟨rfl, trivial⟩⟩ (hP5 _ rfl)) (by omega) (by omega) (by omega)
          · have h := itf c18 h
            refine G_aload_n F dX17_read_60 rfl ?_
            refine G_iload_n F dX17_read_61 rfl ?_
            obtain ⟨⟨m19, d20, c21⟩, e_m19, h⟩ := bnd h
            obtain ⟨D22, C22, h, hD22, hC22⟩ := andA_of h; try dsimp only at hD22 hC22
            obtain ⟨hc_m19, e_m19⟩ := hp_on_of e_m19
            obtain ⟨e_m19, hz1_, hz2_⟩ := lineP_of e_m19
            refine G_callA0 F (As := [.inl s1_5]) (st := []) (x := ⟨"MissedTrains$Scribe", "line", "(I)V"⟩) (owner := "MissedTrains$Scribe") (metX19_line X e_m19) hc_m19 rfl (lw_U q753 q755 q830 q831 q127 q832) q754 hdA_line ⟨by omega, by decide⟩ rfl (Nat.le_of_ble_eq_true rfl) ⟨by omega, by omega⟩ dX17_read_62 ?_
            refine G_cnt (k2 := k5 + d13 + d20) (n2 := n5 + c13 + c21) (nx2 := nx5 + d13 + d20) ?_ (by omega) (by omega) (by omega)
            refine G_iinc F (v := (s1_5 + (1 : Int32))) (L2 := [some (.inr a0), some (.inl (s1_5 + (1 : Int32)))]) dX17_read_65 (by decide) rfl rfl rfl ?_
            refine G_goto F (tgt := 7) dX17_read_68 (by decide) ?_
            cases h
            exact G_cnt (G_sub F (L2 := [some (.inr a0), some (.inl (s1_5 + (1 : Int32)))]) ⟨rfl, ⟨rfl, trivial⟩⟩ (hP5 _ rfl)) (by omega) (by omega) (by omega)
        have h := hp13
        clear hp13
        refine G_icmp_eq F (tgt := 43) dX17_read_31 (by decide) (fun c23 => ?_) (fun c23 => ?_)
        · have h := itt c23 h
          obtain ⟨hq_, hd_, hc_⟩ := lf3 h
          exact G_cnt (G_sub F (L2 := [some (.inr a0), some (.inl s1_5)]) ⟨rfl, ⟨rfl, trivial⟩⟩ (K13 _ hq_)) (by omega) (by omega) (by omega)
        · have h := itf c23 h
          refine G_aload_n F dX17_read_34 rfl ?_
          refine G_iconst F (v := (1 : Int32)) dX17_read_35 (by decide) ?_
          refine G_aload_n F dX17_read_36 rfl ?_
          obtain ⟨v24, e_v24, h⟩ := bnd h
          refine G_getI F okX19 (f := 1) (by decide) q722 rfl dX17_read_37 e_v24 ?_
          obtain ⟨m25, e_m25, h⟩ := bnd h
          obtain ⟨hc_m25, e_m25⟩ := hp_on_of e_m25
          refine G_callU0 F (As := [.inl (1 : Int32), .inl v24]) (st := []) (x := ⟨"MissedTrains$Scribe", "bad", "(II)V"⟩) (owner := "MissedTrains$Scribe") (metX17_badp X e_m25) hc_m25 rfl (lw_U q820 q1828 q1830 q785 q125 q786) rfl hdfX17_bad ⟨by omega, by decide⟩ rfl (Nat.le_of_ble_eq_true rfl) ⟨by omega, by omega⟩ dX17_read_40 ?_
          obtain ⟨hq_, hd_, hc_⟩ := lf3 h
          exact G_cnt (G_sub F (L2 := [some (.inr a0), some (.inl s1_5)]) ⟨rfl, ⟨rfl, trivial⟩⟩ (K13 _ hq_)) (by omega) (by omega) (by omega)
  have hI := iterA_ok dc ds (fun (s : (Int32 × Hp)) nx5 k5 n5 => match s with | (s1_5, m5) => G X cx 2 (Qm X cx (some (.inl rv)) m_ nx dc ds) (k5) (n5) m5 (nx5) [some (.inr a0), some (.inl s1_5)] [] 7) (fun q a_ b_ c_ => q = r5 ∧ a_ = nx + d2 + e5 ∧ b_ = 0 + d2 + e5 ∧ c_ = 0 + c3 + f5) KB5 _ _ _ _ _ _ _ _ hr5 (by omega) (by omega) ⟨rfl, rfl, rfl, rfl⟩
  exact G_sub F (L2 := [some (.inr a0), some (.inl (1 : Int32))]) ⟨rfl, ⟨rfl, trivial⟩⟩ hI

theorem metX6_takes (X : Gx) {m : Hp} {nx : Nat} {a0 : Option Nat} {a1 : Option Nat} {a2 : Int32} {m_ : Hp} (h : fX6_takes m a0 a1 a2 = some m_) : Con X (1) yX6_takes cX6_takes 4 ((none : Option FieldType)) [.inr a0, .inr a1, .inl a2] m nx none m_ 0 0 := by
  refine Con.of (own := RX6) (nm := "takes") (L := [some (.inr a0), some (.inr a1), some (.inl a2), none]) (by decide +kernel) rfl rfl (Nat.le_of_ble_eq_true rfl) (ent_of 1 rfl) ?_
  intro cx F
  refine G_aload_n F dX6_takes_0 rfl ?_
  refine G_aload_n F dX6_takes_1 rfl ?_
  obtain ⟨v1, e_v1, h⟩ := bnd h
  refine G_getI F okX6 (f := 2) (by decide) q303 rfl dX6_takes_2 e_v1 ?_
  obtain ⟨m2, e_m2, h⟩ := bnd h
  refine G_putV F okX6 (f := 2) (by decide) q303 rfl rfl dX6_takes_5 (vfit_int _) e_m2 ?_
  refine G_iconst F (v := (0 : Int32)) dX6_takes_8 (by decide) ?_
  refine G_istore_n F (L2 := [some (.inr a0), some (.inr a1), some (.inl a2), some (.inl (0 : Int32))]) dX6_takes_9 (by decide) rfl ?_
  obtain ⟨r3, hr3, h⟩ := bnd h
  have KE3 : ∀ (m14 : Hp), m14 = r3 → G X cx 4 (Qm X cx none m_ nx 0 0) (0) (0) m14 (nx) [some (.inr a0), none, none, none] [] 50 := by
    intro m14 hq
    subst hq
    try dsimp only at h
    refine G_aload_n F dX6_takes_50 rfl ?_
    refine G_iconst F (v := (0 : Int32)) dX6_takes_51 (by decide) ?_
    obtain ⟨m15, e_m15, h⟩ := bnd h
    refine G_putV F okX6 (f := 3) (by decide) q307 rfl rfl dX6_takes_52 (vfit_int _) e_m15 ?_
    refine G_aload_n F dX6_takes_55 rfl ?_
    refine G_iconst F (v := (1 : Int32)) dX6_takes_56 (by decide) ?_
    obtain ⟨m16, e_m16, h⟩ := bnd h
    refine G_putV F okX6 (f := 4) (by decide) q310 rfl rfl dX6_takes_57 (hp_pZ_of e_m16).1 (hp_pZ_of e_m16).2 ?_
    cases h
    exact G_vret F rfl (Nat.le_refl _) (Nat.le_refl _) rfl dX6_takes_60
  have KB3 : ∀ s o3, fX6_takes_L10 a0 a1 a2 s = some o3 → (∀ s', o3 = Sum.inl s' → (fun (s : (Int32 × Hp)) => match s with | (s3_3, m3) => G X cx 4 (Qm X cx none m_ nx 0 0) (0) (0) m3 (nx) [some (.inr a0), some (.inr a1), some (.inl a2), some (.inl s3_3)] [] 10) s') → (∀ q, o3 = Sum.inr q → q = r3) → (fun (s : (Int32 × Hp)) => match s with | (s3_3, m3) => G X cx 4 (Qm X cx none m_ nx 0 0) (0) (0) m3 (nx) [some (.inr a0), some (.inr a1), some (.inl a2), some (.inl s3_3)] [] 10) s := by
    intro s o3 h hP3 hE3
    obtain ⟨s3_3, m3⟩ := s
    try dsimp only at hP3 hE3 ⊢
    refine G_iload_n F dX6_takes_10 rfl ?_
    refine G_aload_n F dX6_takes_11 rfl ?_
    obtain ⟨v4, e_v4, h⟩ := bnd h
    refine G_getI F okX6 (f := 2) (by decide) q303 rfl dX6_takes_12 e_v4 ?_
    refine G_icmp_ge F (tgt := 50) dX6_takes_15 (by decide) (fun c5 => ?_) (fun c5 => ?_)
    · have h := itt c5 h
      cases h
      exact G_sub F (L2 := [some (.inr a0), none, none, none]) ⟨rfl, trivial⟩ (KE3 _ (hE3 _ rfl))
    · have h := itf c5 h
      refine G_aload_n F dX6_takes_18 rfl ?_
      obtain ⟨v6, e_v6, h⟩ := bnd h
      refine G_getR F okX6 (f := 0) (by decide) q295 rfl dX6_takes_19 e_v6 ?_
      refine G_iload_n F dX6_takes_22 rfl ?_
      refine G_aload_n F dX6_takes_23 rfl ?_
      obtain ⟨v7, e_v7, h⟩ := bnd h
      refine G_getR F okX6 (f := 0) (by decide) q295 rfl dX6_takes_24 e_v7 ?_
      refine G_iload_n F dX6_takes_27 rfl ?_
      obtain ⟨v8, e_v8, h⟩ := bnd h
      refine G_iald F dX6_takes_28 e_v8 ?_
      obtain ⟨m9, e_m9, h⟩ := bnd h
      refine G_iast F dX6_takes_29 e_m9 ?_
      refine G_aload_n F dX6_takes_30 rfl ?_
      obtain ⟨v10, e_v10, h⟩ := bnd h
      refine G_getR F okX6 (f := 1) (by decide) q299 rfl dX6_takes_31 e_v10 ?_
      refine G_iload_n F dX6_takes_34 rfl ?_
      refine G_aload_n F dX6_takes_35 rfl ?_
      obtain ⟨v11, e_v11, h⟩ := bnd h
      refine G_getR F okX6 (f := 1) (by decide) q299 rfl dX6_takes_36 e_v11 ?_
      refine G_iload_n F dX6_takes_39 rfl ?_
      obtain ⟨v12, e_v12, h⟩ := bnd h
      refine G_iald F dX6_takes_40 e_v12 ?_
      refine G_iload_n F dX6_takes_41 rfl ?_
      refine G_iadd F dX6_takes_42 ?_
      obtain ⟨m13, e_m13, h⟩ := bnd h
      refine G_iast F dX6_takes_43 e_m13 ?_
      refine G_iinc F (v := (s3_3 + (1 : Int32))) (L2 := [some (.inr a0), some (.inr a1), some (.inl a2), some (.inl (s3_3 + (1 : Int32)))]) dX6_takes_44 (by decide) rfl rfl rfl ?_
      refine G_goto F (tgt := 10) dX6_takes_47 (by decide) ?_
      cases h
      exact G_sub F (L2 := [some (.inr a0), some (.inr a1), some (.inl a2), some (.inl (s3_3 + (1 : Int32)))]) ⟨rfl, ⟨rfl, ⟨rfl, ⟨rfl, trivial⟩⟩⟩⟩ (hP3 _ rfl)
  have hI := iter_ok (fun (s : (Int32 × Hp)) => match s with | (s3_3, m3) => G X cx 4 (Qm X cx none m_ nx 0 0) (0) (0) m3 (nx) [some (.inr a0), some (.inr a1), some (.inl a2), some (.inl s3_3)] [] 10) (fun q => q = r3) KB3 _ _ _ hr3 rfl
  exact G_sub F (L2 := [some (.inr a0), some (.inr a1), some (.inl a2), some (.inl (0 : Int32))]) ⟨rfl, ⟨rfl, ⟨rfl, ⟨rfl, trivial⟩⟩⟩⟩ hI

theorem metX18_stands (X : Gx) {m : Hp} {nx : Nat} {a0 : Option Nat} {a1 : Int32} {rv : Int32} {m_ : Hp} (h : fX18_stands m a0 a1 = some (rv, m_)) : Con X (2) yX18_stands cX18_stands 5 ((Option.some FieldType.int)) [.inr a0, .inl a1] m nx (some (.inl rv)) m_ 0 0 := by
  refine Con.of (own := RX18) (nm := "stands") (L := [some (.inr a0), some (.inl a1), none, none, none]) (by decide +kernel) rfl rfl (Nat.le_of_ble_eq_true rfl) (ent_of 3 rfl) ?_
  intro cx F
  refine G_iconst F (v := (0 : Int32)) dX18_stands_0 (by decide) ?_
  refine G_istore_n F (L2 := [some (.inr a0), some (.inl a1), some (.inl (0 : Int32)), none, none]) dX18_stands_1 (by decide) rfl ?_
  refine G_iconst F (v := (0 : Int32)) dX18_stands_2 (by decide) ?_
  refine G_istore_n F (L2 := [some (.inr a0), some (.inl a1), some (.inl (0 : Int32)), some (.inl (0 : Int32)), none]) dX18_stands_3 (by decide) rfl ?_
  obtain ⟨r1, hr1, h⟩ := bnd h
  have KE1 : ∀ (v17 : Int32) (m18 : Hp), (v17, m18) = r1 → G X cx 5 (Qm X cx (some (.inl rv)) m_ nx 0 0) (0) (0) m18 (nx) [none, none, some (.inl v17), none, none] [] 65 := by
    intro v17 m18 hq
    subst hq
    try dsimp only at h
    refine G_iload_n F dX18_stands_65 rfl ?_
    cases h
    exact G_iret F rfl (Nat.le_refl _) (Nat.le_refl _) rfl dX18_stands_66
  have KB1 : ∀ s o1, fX18_stands_L4 a0 a1 s = some o1 → (∀ s', o1 = Sum.inl s' → (fun (s : (Int32 × Int32 × Hp)) => match s with | (s2_1, s3_1, m1) => G X cx 5 (Qm X cx (some (.inl rv)) m_ nx 0 0) (0) (0) m1 (nx) [some (.inr a0), some (.inl a1), some (.inl s2_1), some (.inl s3_1), none] [] 4) s') → (∀ q, o1 = Sum.inr q → q = r1) → (fun (s : (Int32 × Int32 × Hp)) => match s with | (s2_1, s3_1, m1) => G X cx 5 (Qm X cx (some (.inl rv)) m_ nx 0 0) (0) (0) m1 (nx) [some (.inr a0), some (.inl a1), some (.inl s2_1), some (.inl s3_1), none] [] 4) s := by
    intro s o1 h hP1 hE1
    obtain ⟨s2_1, s3_1, m1⟩ := s
    try dsimp only at hP1 hE1 ⊢
    refine G_iload_n F dX18_stands_4 rfl ?_
    refine G_iload_n F dX18_stands_5 rfl ?_
    refine G_icmp_ge F (tgt := 65) dX18_stands_6 (by decide) (fun c2 => ?_) (fun c2 => ?_)
    · have h := itt c2 h
      cases h
      exact G_sub F (L2 := [none, none, some (.inl s2_1), none, none]) ⟨rfl, trivial⟩ (KE1 _ _ (hE1 _ rfl))
    · have h := itf c2 h
      refine G_iconst F (v := (0 : Int32)) dX18_stands_9 (by decide) ?_
      refine G_istore F (L2 := [some (.inr a0), some (.inl a1), some (.inl s2_1), some (.inl s3_1), some (.inl (0 : Int32))]) dX18_stands_10 (by decide) rfl ?_
      obtain ⟨r3, hr3, h⟩ := bnd h
      have KE3 : ∀ (v15 : Int32) (m16 : Hp), (v15, m16) = r3 → G X cx 5 (Qm X cx (some (.inl rv)) m_ nx 0 0) (0) (0) m16 (nx) [some (.inr a0), some (.inl a1), some (.inl v15), some (.inl s3_1), none] [] 59 := by
        intro v15 m16 hq
        subst hq
        try dsimp only at h
        refine G_iinc F (v := (s3_1 + (1 : Int32))) (L2 := [some (.inr a0), some (.inl a1), some (.inl v15), some (.inl (s3_1 + (1 : Int32))), none]) dX18_stands_59 (by decide) rfl rfl rfl ?_
        refine G_goto F (tgt := 4) dX18_stands_62 (by decide) ?_
        cases h
        exact G_sub F (L2 := [some (.inr a0), some (.inl a1), some (.inl v15), some (.inl (s3_1 + (1 : Int32))), none]) ⟨rfl, ⟨rfl, ⟨rfl, ⟨rfl, trivial⟩⟩⟩⟩ (hP1 _ rfl)
      have KB3 : ∀ s o3, fX18_stands_L12 a0 a1 s3_1 s = some o3 → (∀ s', o3 = Sum.inl s' → (fun (s : (Int32 × Int32 × Hp)) => match s with | (s2_3, s4_3, m3) => G X cx 5 (Qm X cx (some (.inl rv)) m_ nx 0 0) (0) (0) m3 (nx) [some (.inr a0), some (.inl a1), some (.inl s2_3), some (.inl s3_1), some (.inl s4_3)] [] 12) s') → (∀ q, o3 = Sum.inr q → q = r3) → (fun (s : (Int32 × Int32 × Hp)) => match s with | (s2_3, s4_3, m3) => G X cx 5 (Qm X cx (some (.inl rv)) m_ nx 0 0) (0) (0) m3 (nx) [some (.inr a0), some (.inl a1), some (.inl s2_3), some (.inl s3_1), some (.inl s4_3)] [] 12) s := by
        intro s o3 h hP3 hE3
        obtain ⟨s2_3, s4_3, m3⟩ := s
        try dsimp only at hP3 hE3 ⊢
        refine G_iload F dX18_stands_12 rfl ?_
        refine G_aload_n F dX18_stands_14 rfl ?_
        obtain ⟨v4, e_v4, h⟩ := bnd h
        refine G_getR F okX18 (f := 6) (by decide) q717 rfl dX18_stands_15 e_v4 ?_
        refine G_iload_n F dX18_stands_18 rfl ?_
        obtain ⟨v5, e_v5, h⟩ := bnd h
        refine G_iald F dX18_stands_19 e_v5 ?_
        refine G_icmp_ge F (tgt := 59) dX18_stands_20 (by decide) (fun c6 => ?_) (fun c6 => ?_)
        · have h := itt c6 h
          cases h
          exact G_sub F (L2 := [some (.inr a0), some (.inl a1), some (.inl s2_3), some (.inl s3_1), none]) ⟨rfl, ⟨rfl, ⟨rfl, ⟨rfl, trivial⟩⟩⟩⟩ (KE3 _ _ (hE3 _ rfl))
        · have h := itf c6 h
          refine G_aload_n F dX18_stands_23 rfl ?_
          obtain ⟨v7, e_v7, h⟩ := bnd h
          refine G_getR F okX18 (f := 9) (by decide) q720 rfl dX18_stands_24 e_v7 ?_
          obtain ⟨v8, e_v8, h⟩ := bnd h
          refine G_getRN F okX0 (f := 0) (by decide) q327 rfl dX18_stands_27 e_v8 ?_
          refine G_iload_n F dX18_stands_30 rfl ?_
          obtain ⟨v9, e_v9, h⟩ := bnd h
          refine G_aald F (t := 5) (by decide) dX18_stands_31 e_v9 ?_
          refine G_aload_n F dX18_stands_32 rfl ?_
          obtain ⟨v10, e_v10, h⟩ := bnd h
          refine G_getR F okX18 (f := 5) (by decide) q716 rfl dX18_stands_33 e_v10 ?_
          refine G_iload_n F dX18_stands_36 rfl ?_
          obtain ⟨v11, e_v11, h⟩ := bnd h
          refine G_aald F (t := 5) (by decide) dX18_stands_37 e_v11 ?_
          refine G_iload F dX18_stands_38 rfl ?_
          refine G_aload_n F dX18_stands_40 rfl ?_
          obtain ⟨v12, e_v12, h⟩ := bnd h
          refine G_getR F okX18 (f := 7) (by decide) q718 rfl dX18_stands_41 e_v12 ?_
          refine G_iload_n F dX18_stands_44 rfl ?_
          obtain ⟨v13, e_v13, h⟩ := bnd h
          refine G_iald F dX18_stands_45 e_v13 ?_
          refine G_imul F dX18_stands_46 ?_
          obtain ⟨m14, e_m14, h⟩ := bnd h
          obtain ⟨hc_m14, e_m14⟩ := hp_on_of e_m14
          refine G_callV0 F (As := [.inr v11, .inl (s4_3 * v13)]) (st := []) (metX6_takes X e_m14) hc_m14 rfl rfl (lw_V q862 q863 q864 q108 q865) hdfX6_takes ⟨by omega, by decide⟩ rfl (Nat.le_of_ble_eq_true rfl) ⟨by omega, by omega⟩ dX18_stands_47 ?_
          refine G_iinc F (v := (s2_3 + (1 : Int32))) (L2 := [some (.inr a0), some (.inl a1), some (.inl (s2_3 + (1 : Int32))), some (.inl s3_1), some (.inl s4_3)]) dX18_stands_50 (by decide) rfl rfl rfl ?_
          refine G_iinc F (v := (s4_3 + (1 : Int32))) (L2 := [some (.inr a0), some (.inl a1), some (.inl (s2_3 + (1 : Int32))), some (.inl s3_1), some (.inl (s4_3 + (1 : Int32)))]) dX18_stands_53 (by decide) rfl rfl rfl ?_
          refine G_goto F (tgt := 12) dX18_stands_56 (by decide) ?_
          cases h
          exact G_sub F (L2 := [some (.inr a0), some (.inl a1), some (.inl (s2_3 + (1 : Int32))), some (.inl s3_1), some (.inl (s4_3 + (1 : Int32)))]) ⟨rfl, ⟨rfl, ⟨rfl, ⟨rfl, ⟨rfl, trivial⟩⟩⟩⟩⟩ (hP3 _ rfl)
      have hI := iter_ok (fun (s : (Int32 × Int32 × Hp)) => match s with | (s2_3, s4_3, m3) => G X cx 5 (Qm X cx (some (.inl rv)) m_ nx 0 0) (0) (0) m3 (nx) [some (.inr a0), some (.inl a1), some (.inl s2_3), some (.inl s3_1), some (.inl s4_3)] [] 12) (fun q => q = r3) KB3 _ _ _ hr3 rfl
      exact G_sub F (L2 := [some (.inr a0), some (.inl a1), some (.inl s2_1), some (.inl s3_1), some (.inl (0 : Int32))]) ⟨rfl, ⟨rfl, ⟨rfl, ⟨rfl, ⟨rfl, trivial⟩⟩⟩⟩⟩ hI
  have hI := iter_ok (fun (s : (Int32 × Int32 × Hp)) => match s with | (s2_1, s3_1, m1) => G X cx 5 (Qm X cx (some (.inl rv)) m_ nx 0 0) (0) (0) m1 (nx) [some (.inr a0), some (.inl a1), some (.inl s2_1), some (.inl s3_1), none] [] 4) (fun q => q = r1) KB1 _ _ _ hr1 rfl
  exact G_sub F (L2 := [some (.inr a0), some (.inl a1), some (.inl (0 : Int32)), some (.inl (0 : Int32)), none]) ⟨rfl, ⟨rfl, ⟨rfl, ⟨rfl, trivial⟩⟩⟩⟩ hI

theorem metX0_timetable (X : Gx) {m : Hp} {nx : Nat} {a0 : Option Nat} {a1 : Int32} {rv : Int32} {m_ : Hp} {dc ds : Nat} (h : fX0_timetable m nx a0 a1 = some ((rv, m_), dc, ds)) : Con X (7) yX0_timetable cX0_timetable 4 ((Option.some FieldType.int)) [.inr a0, .inl a1] m nx (some (.inl rv)) m_ dc ds := by
  refine Con.of (own := RX0) (nm := "timetable") (L := [some (.inr a0), some (.inl a1), none, none]) (by decide +kernel) rfl rfl (Nat.le_of_ble_eq_true rfl) (ent_of 2 rfl) ?_
  intro cx F
  refine G_iload_n F dX0_timetable_0 rfl ?_
  refine G_iconst F (v := (1 : Int32)) dX0_timetable_1 (by decide) ?_
  refine G_sipush F (v := (160 : Int32)) dX0_timetable_2 (by decide) ?_
  obtain ⟨v1, e_v1, h⟩ := bnd h
  refine G_callSv F (As := [.inl a1, .inl (1 : Int32), .inl (160 : Int32)]) (st := []) (metX0_within X e_v1) (lw_S q422 q423 q102 q424) hdfX0_within ⟨by omega, by decide⟩ rfl (Nat.le_of_ble_eq_true rfl) ⟨by omega, by omega⟩ dX0_timetable_5 ?_
  refine G_if_eq F (tgt := 19) dX0_timetable_8 (by decide) (fun c2 => ?_) (fun c2 => ?_)
  · have h := itt c2 h
    refine G_iconst F (v := (-1 : Int32)) dX0_timetable_19 (by decide) ?_
    cases h
    exact G_iret F rfl (by omega) (by omega) (by omega) dX0_timetable_20
  · have h := itf c2 h
    refine G_iload_n F dX0_timetable_11 rfl ?_
    refine G_aload_n F dX0_timetable_12 rfl ?_
    obtain ⟨v3, e_v3, h⟩ := bnd h
    refine G_getI F okX0 (f := 12) (by decide) q350 rfl dX0_timetable_13 e_v3 ?_
    refine G_icmp_le F (tgt := 21) dX0_timetable_16 (by decide) (fun c4 => ?_) (fun c4 => ?_)
    · have h := itt c4 h
      refine G_aload_n F dX0_timetable_21 rfl ?_
      refine G_iconst F (v := (0 : Int32)) dX0_timetable_22 (by decide) ?_
      obtain ⟨m5, e_m5, h⟩ := bnd h
      refine G_putV F okX0 (f := 12) (by decide) q350 rfl rfl dX0_timetable_23 (vfit_int _) e_m5 ?_
      obtain ⟨m6, e_m6, h⟩ := bnd h
      obtain ⟨D7, C7, h, hD7, hC7⟩ := andA_of h; try dsimp only at hD7 hC7
      refine G_newc F okX18 (fs := dfX18) q706 q707 q126 (by decide) (by omega) (by omega) dX0_timetable_26 e_m6 ?_
      refine G_dup F dX0_timetable_29 ?_
      refine G_aload_n F dX0_timetable_30 rfl ?_
      refine G_iload_n F dX0_timetable_31 rfl ?_
      obtain ⟨⟨m8, d9, c10⟩, e_m8, h⟩ := bnd h
      obtain ⟨D11, C11, h, hD11, hC11⟩ := andA_of h; try dsimp only at hD11 hC11
      refine G_callI0 F (As := [.inr a0, .inl a1]) (st := [.inr (some (nx))]) (metX18_init X e_m8) q710 q126 q708 q709 rfl hdfX18_init ⟨by omega, by decide⟩ rfl (Nat.le_of_ble_eq_true rfl) ⟨by omega, by omega⟩ dX0_timetable_32 ?_
      refine G_astore_n F (L2 := [some (.inr a0), some (.inl a1), some (.inr (some (nx))), none]) dX0_timetable_35 (by decide) rfl ?_
      refine G_aload_n F dX0_timetable_36 rfl ?_
      obtain ⟨⟨⟨v12, m13⟩, d14, c15⟩, e_v12, h⟩ := bnd h
      obtain ⟨D16, C16, h, hD16, hC16⟩ := andA_of h; try dsimp only at hD16 hC16
      obtain ⟨hc_v12, e_v12⟩ := hp_on_of e_v12
      refine G_callUv F (As := []) (st := []) (x := ⟨"MissedTrains$Clerk", "read", "()I"⟩) (owner := "MissedTrains$Scribe") (metX17_readc X e_v12) hc_v12 rfl (lw_U q747 q748 q750 q751 q125 q752) rfl hdfX17_read ⟨by omega, by decide⟩ rfl (Nat.le_of_ble_eq_true rfl) ⟨by omega, by omega⟩ dX0_timetable_37 ?_
      refine G_istore_n F (L2 := [some (.inr a0), some (.inl a1), some (.inr (some (nx))), some (.inl v12)]) dX0_timetable_40 (by decide) rfl ?_
      refine G_iload_n F dX0_timetable_41 rfl ?_
      refine G_if_ge F (tgt := 47) dX0_timetable_42 (by decide) (fun c17 => ?_) (fun c17 => ?_)
      · have h := itt c17 h
        refine G_aload_n F dX0_timetable_47 rfl ?_
        refine G_aload_n F dX0_timetable_48 rfl ?_
        refine G_iload_n F dX0_timetable_49 rfl ?_
        obtain ⟨⟨v18, m19⟩, e_v18, h⟩ := bnd h
        obtain ⟨hc_v18, e_v18⟩ := hp_on_of e_v18
        refine G_callVv F (As := [.inl v12]) (st := [.inr a0]) (metX18_stands X e_v18) hc_v18 rfl rfl (lw_V q858 q859 q860 q126 q861) hdfX18_stands ⟨by omega, by decide⟩ rfl (Nat.le_of_ble_eq_true rfl) ⟨by omega, by omega⟩ dX0_timetable_50 ?_
        obtain ⟨m20, e_m20, h⟩ := bnd h
        refine G_putV F okX0 (f := 3) (by decide) q335 rfl rfl dX0_timetable_53 (vfit_int _) e_m20 ?_
        refine G_aload_n F dX0_timetable_56 rfl ?_
        obtain ⟨m21, e_m21, h⟩ := bnd h
        obtain ⟨hc_m21, e_m21⟩ := hp_on_of e_m21
        refine G_callV0 F (As := []) (st := []) (metX0_laysEvents X e_m21) hc_m21 rfl rfl (lw_V q866 q868 qs19 q102 q869) hdfX0_laysEvents ⟨by omega, by decide⟩ rfl (Nat.le_of_ble_eq_true rfl) ⟨by omega, by omega⟩ dX0_timetable_57 ?_
        refine G_aload_n F dX0_timetable_60 rfl ?_
        obtain ⟨v22, e_v22, h⟩ := bnd h
        refine G_getI F okX0 (f := 3) (by decide) q335 rfl dX0_timetable_61 e_v22 ?_
        cases h
        exact G_iret F rfl (by omega) (by omega) (by omega) dX0_timetable_64
      · have h := itf c17 h
        refine G_iload_n F dX0_timetable_45 rfl ?_
        cases h
        exact G_iret F rfl (by omega) (by omega) (by omega) dX0_timetable_46
    · have h := itf c4 h
      refine G_iconst F (v := (-1 : Int32)) dX0_timetable_19 (by decide) ?_
      cases h
      exact G_iret F rfl (by omega) (by omega) (by omega) dX0_timetable_20

theorem metX19_init (X : Gx) {m : Hp} {nx : Nat} {a0 : Nat} {a1 : Option Nat} {a2 : Int32} {m_ : Hp} {dc ds : Nat} (h : fX19_init m nx a0 a1 a2 = some (m_, dc, ds)) : Con X (3) yX19_init cX19_init 4 ((none : Option FieldType)) [.inr (some a0), .inr a1, .inl a2] m nx none m_ dc ds := by
  refine Con.of (own := RX19) (nm := "<init>") (L := [some (.inr (some a0)), some (.inr a1), some (.inl a2), none]) (by decide +kernel) rfl rfl (Nat.le_of_ble_eq_true rfl) (ent_of 1 rfl) ?_
  intro cx F
  refine G_aload_n F dX19_init_0 rfl ?_
  refine G_aload_n F dX19_init_1 rfl ?_
  obtain ⟨m1, e_m1, h⟩ := bnd h
  refine G_putVF F okX19 (f := 7) (by decide) q886 rfl rfl rfl dX19_init_2 (vfit_obj _ _) e_m1 ?_
  refine G_aload_n F dX19_init_5 rfl ?_
  refine G_aload_n F dX19_init_6 rfl ?_
  refine G_iload_n F dX19_init_7 rfl ?_
  obtain ⟨m2, e_m2, h⟩ := bnd h
  refine G_callI0 F (As := [.inr a1, .inl a2]) (st := []) (metX17_initp X e_m2) q713 q125 q883 q712 rfl hdfX17_init ⟨by omega, by decide⟩ rfl (Nat.le_of_ble_eq_true rfl) ⟨by omega, by omega⟩ dX19_init_8 ?_
  refine G_aload_n F dX19_init_11 rfl ?_
  refine G_bipush F (v := (48 : Int32)) dX19_init_12 (by decide) ?_
  obtain ⟨m3, e_m3, h⟩ := bnd h
  obtain ⟨D4, C4, h, hD4, hC4⟩ := andA_of h; try dsimp only at hD4 hC4
  refine G_newac F (t := 0) (N := 48) q180 rfl (by decide) (by decide) (by decide) (by decide) (by omega) (by omega) dX19_init_14 e_m3 ?_
  obtain ⟨m5, e_m5, h⟩ := bnd h
  refine G_putVF F okX19 (f := 5) (by decide) q884 rfl rfl rfl dX19_init_16 (vfit_arr _ _) e_m5 ?_
  refine G_aload_n F dX19_init_19 rfl ?_
  refine G_bipush F (v := (48 : Int32)) dX19_init_20 (by decide) ?_
  obtain ⟨m6, e_m6, h⟩ := bnd h
  obtain ⟨D7, C7, h, hD7, hC7⟩ := andA_of h; try dsimp only at hD7 hC7
  refine G_newac F (t := 2) (N := 48) q325 rfl (by decide) (by decide) (by decide) (by decide) (by omega) (by omega) dX19_init_22 e_m6 ?_
  obtain ⟨m8, e_m8, h⟩ := bnd h
  refine G_putVF F okX19 (f := 6) (by decide) q885 rfl rfl rfl dX19_init_24 (vfit_arr _ _) e_m8 ?_
  refine G_iconst F (v := (0 : Int32)) dX19_init_27 (by decide) ?_
  refine G_istore_n F (L2 := [some (.inr (some a0)), some (.inr a1), some (.inl a2), some (.inl (0 : Int32))]) dX19_init_28 (by decide) rfl ?_
  obtain ⟨⟨r9, e9, f9⟩, hr9, h⟩ := bnd h
  obtain ⟨D23, C23, h, hD23, hC23⟩ := andA_of h; try dsimp only at hD23 hC23
  have KE9 : ∀ (m22 : Hp), m22 = r9 → G X cx 4 (Qm X cx none m_ nx dc ds) (0 + 1 + 1 + e9) (0 + 48 + 48 + f9) m22 (nx + 1 + 1 + e9) [none, none, none, none] [] 73 := by
    intro m22 hq
    subst hq
    try dsimp only at h
    cases h
    exact G_vret F rfl (by omega) (by omega) (by omega) dX19_init_73
  have KB9 : ∀ s nx9 k9 n9 o9 d9 c9, fX19_init_L29 (some a0) a1 s nx9 = some (o9, d9, c9) → k9 + d9 ≤ dc → n9 + c9 ≤ ds → (∀ s', o9 = Sum.inl s' → (fun (s : (Int32 × Hp)) nx9 k9 n9 => match s with | (s3_9, m9) => G X cx 4 (Qm X cx none m_ nx dc ds) (k9) (n9) m9 (nx9) [some (.inr (some a0)), some (.inr a1), none, some (.inl s3_9)] [] 29) s' (nx9 + d9) (k9 + d9) (n9 + c9)) → (∀ q, o9 = Sum.inr q → (fun q a_ b_ c_ => q = r9 ∧ a_ = nx + 1 + 1 + e9 ∧ b_ = 0 + 1 + 1 + e9 ∧ c_ = 0 + 48 + 48 + f9) q (nx9 + d9) (k9 + d9) (n9 + c9)) → (fun (s : (Int32 × Hp)) nx9 k9 n9 => match s with | (s3_9, m9) => G X cx 4 (Qm X cx none m_ nx dc ds) (k9) (n9) m9 (nx9) [some (.inr (some a0)), some (.inr a1), none, some (.inl s3_9)] [] 29) s nx9 k9 n9 := by
    intro s nx9 k9 n9 o9 d9 c9 h hk9 hn9 hP9 hE9
    obtain ⟨s3_9, m9⟩ := s
    try dsimp only at hP9 hE9 ⊢
    refine G_iload_n F dX19_init_29 rfl ?_
    refine G_aload_n F dX19_init_30 rfl ?_
    obtain ⟨v10, e_v10, h⟩ := bnd h
    refine G_getIN F okX0 (f := 3) (by decide) q334 rfl dX19_init_31 e_v10 ?_
    refine G_icmp_ge F (tgt := 73) dX19_init_34 (by decide) (fun c11 => ?_) (fun c11 => ?_)
    · have h := itt c11 h
      cases h
      obtain ⟨q0_, q1_, q2_, q3_⟩ := hE9 _ rfl
      exact G_cnt (G_sub F (L2 := [none, none, none, none]) trivial (KE9 _ q0_)) (by omega) (by omega) (by omega)
    · have h := itf c11 h
      refine G_aload_n F dX19_init_37 rfl ?_
      obtain ⟨v12, e_v12, h⟩ := bnd h
      refine G_getR F okX19 (f := 5) (by decide) q884 rfl dX19_init_38 e_v12 ?_
      refine G_iload_n F dX19_init_41 rfl ?_
      refine G_aload_n F dX19_init_42 rfl ?_
      obtain ⟨v13, e_v13, h⟩ := bnd h
      refine G_getRN F okX0 (f := 0) (by decide) q326 rfl dX19_init_43 e_v13 ?_
      refine G_iload_n F dX19_init_46 rfl ?_
      obtain ⟨v14, e_v14, h⟩ := bnd h
      refine G_aald F (t := 5) (by decide) dX19_init_47 e_v14 ?_
      obtain ⟨v15, e_v15, h⟩ := bnd h
      refine G_getIN F okX6 (f := 3) (by decide) q306 rfl dX19_init_48 e_v15 ?_
      obtain ⟨m16, e_m16, h⟩ := bnd h
      refine G_iast F dX19_init_51 e_m16 ?_
      refine G_aload_n F dX19_init_52 rfl ?_
      obtain ⟨v17, e_v17, h⟩ := bnd h
      refine G_getR F okX19 (f := 6) (by decide) q885 rfl dX19_init_53 e_v17 ?_
      refine G_iload_n F dX19_init_56 rfl ?_
      refine G_aload_n F dX19_init_57 rfl ?_
      obtain ⟨v18, e_v18, h⟩ := bnd h
      refine G_getRN F okX0 (f := 0) (by decide) q326 rfl dX19_init_58 e_v18 ?_
      refine G_iload_n F dX19_init_61 rfl ?_
      obtain ⟨v19, e_v19, h⟩ := bnd h
      refine G_aald F (t := 5) (by decide) dX19_init_62 e_v19 ?_
      obtain ⟨v20, e_v20, h⟩ := bnd h
      refine G_getIN F okX6 (f := 4) (by decide) q311 rfl dX19_init_63 e_v20 ?_
      obtain ⟨m21, e_m21, h⟩ := bnd h
      refine G_zast F dX19_init_66 e_m21 ?_
      refine G_iinc F (v := (s3_9 + (1 : Int32))) (L2 := [some (.inr (some a0)), some (.inr a1), none, some (.inl (s3_9 + (1 : Int32)))]) dX19_init_67 (by decide) rfl rfl rfl ?_
      refine G_goto F (tgt := 29) dX19_init_70 (by decide) ?_
      cases h
      exact G_cnt (G_sub F (L2 := [some (.inr (some a0)), some (.inr a1), none, some (.inl (s3_9 + (1 : Int32)))]) ⟨rfl, ⟨rfl, ⟨rfl, trivial⟩⟩⟩ (hP9 _ rfl)) (by omega) (by omega) (by omega)
  have hI := iterA_ok dc ds (fun (s : (Int32 × Hp)) nx9 k9 n9 => match s with | (s3_9, m9) => G X cx 4 (Qm X cx none m_ nx dc ds) (k9) (n9) m9 (nx9) [some (.inr (some a0)), some (.inr a1), none, some (.inl s3_9)] [] 29) (fun q a_ b_ c_ => q = r9 ∧ a_ = nx + 1 + 1 + e9 ∧ b_ = 0 + 1 + 1 + e9 ∧ c_ = 0 + 48 + 48 + f9) KB9 _ _ _ _ _ _ _ _ hr9 (by omega) (by omega) ⟨rfl, rfl, rfl, rfl⟩
  exact G_sub F (L2 := [some (.inr (some a0)), some (.inr a1), none, some (.inl (0 : Int32))]) ⟨rfl, ⟨rfl, ⟨rfl, trivial⟩⟩⟩ hI

theorem metX19_stands (X : Gx) {m : Hp} {nx : Nat} {a0 : Option Nat} {m_ : Hp} (h : fX19_stands m a0 = some m_) : Con X (1) yX19_stands cX19_stands 2 ((none : Option FieldType)) [.inr a0] m nx none m_ 0 0 := by
  refine Con.of (own := RX19) (nm := "stands") (L := [some (.inr a0), none]) (by decide +kernel) rfl rfl (Nat.le_of_ble_eq_true rfl) (ent_of 1 rfl) ?_
  intro cx F
  refine G_iconst F (v := (0 : Int32)) dX19_stands_0 (by decide) ?_
  refine G_istore_n F (L2 := [some (.inr a0), some (.inl (0 : Int32))]) dX19_stands_1 (by decide) rfl ?_
  obtain ⟨r1, hr1, h⟩ := bnd h
  have KE1 : ∀ (m17 : Hp), m17 = r1 → G X cx 2 (Qm X cx none m_ nx 0 0) (0) (0) m17 (nx) [none, none] [] 55 := by
    intro m17 hq
    subst hq
    try dsimp only at h
    cases h
    exact G_vret F rfl (Nat.le_refl _) (Nat.le_refl _) rfl dX19_stands_55
  have KB1 : ∀ s o1, fX19_stands_L2 a0 s = some o1 → (∀ s', o1 = Sum.inl s' → (fun (s : (Int32 × Hp)) => match s with | (s1_1, m1) => G X cx 2 (Qm X cx none m_ nx 0 0) (0) (0) m1 (nx) [some (.inr a0), some (.inl s1_1)] [] 2) s') → (∀ q, o1 = Sum.inr q → q = r1) → (fun (s : (Int32 × Hp)) => match s with | (s1_1, m1) => G X cx 2 (Qm X cx none m_ nx 0 0) (0) (0) m1 (nx) [some (.inr a0), some (.inl s1_1)] [] 2) s := by
    intro s o1 h hP1 hE1
    obtain ⟨s1_1, m1⟩ := s
    try dsimp only at hP1 hE1 ⊢
    refine G_iload_n F dX19_stands_2 rfl ?_
    refine G_aload_n F dX19_stands_3 rfl ?_
    obtain ⟨v2, e_v2, h⟩ := bnd h
    refine G_getR F okX19 (f := 7) (by decide) q886 rfl dX19_stands_4 e_v2 ?_
    obtain ⟨v3, e_v3, h⟩ := bnd h
    refine G_getIN F okX0 (f := 3) (by decide) q334 rfl dX19_stands_7 e_v3 ?_
    refine G_icmp_ge F (tgt := 55) dX19_stands_10 (by decide) (fun c4 => ?_) (fun c4 => ?_)
    · have h := itt c4 h
      cases h
      exact G_sub F (L2 := [none, none]) trivial (KE1 _ (hE1 _ rfl))
    · have h := itf c4 h
      refine G_aload_n F dX19_stands_13 rfl ?_
      obtain ⟨v5, e_v5, h⟩ := bnd h
      refine G_getR F okX19 (f := 7) (by decide) q886 rfl dX19_stands_14 e_v5 ?_
      obtain ⟨v6, e_v6, h⟩ := bnd h
      refine G_getRN F okX0 (f := 0) (by decide) q326 rfl dX19_stands_17 e_v6 ?_
      refine G_iload_n F dX19_stands_20 rfl ?_
      obtain ⟨v7, e_v7, h⟩ := bnd h
      refine G_aald F (t := 5) (by decide) dX19_stands_21 e_v7 ?_
      refine G_aload_n F dX19_stands_22 rfl ?_
      obtain ⟨v8, e_v8, h⟩ := bnd h
      refine G_getR F okX19 (f := 5) (by decide) q884 rfl dX19_stands_23 e_v8 ?_
      refine G_iload_n F dX19_stands_26 rfl ?_
      obtain ⟨v9, e_v9, h⟩ := bnd h
      refine G_iald F dX19_stands_27 e_v9 ?_
      obtain ⟨m10, e_m10, h⟩ := bnd h
      refine G_putVN F okX6 (f := 3) (by decide) q306 rfl rfl dX19_stands_28 (vfit_int _) e_m10 ?_
      refine G_aload_n F dX19_stands_31 rfl ?_
      obtain ⟨v11, e_v11, h⟩ := bnd h
      refine G_getR F okX19 (f := 7) (by decide) q886 rfl dX19_stands_32 e_v11 ?_
      obtain ⟨v12, e_v12, h⟩ := bnd h
      refine G_getRN F okX0 (f := 0) (by decide) q326 rfl dX19_stands_35 e_v12 ?_
      refine G_iload_n F dX19_stands_38 rfl ?_
      obtain ⟨v13, e_v13, h⟩ := bnd h
      refine G_aald F (t := 5) (by decide) dX19_stands_39 e_v13 ?_
      refine G_aload_n F dX19_stands_40 rfl ?_
      obtain ⟨v14, e_v14, h⟩ := bnd h
      refine G_getR F okX19 (f := 6) (by decide) q885 rfl dX19_stands_41 e_v14 ?_
      refine G_iload_n F dX19_stands_44 rfl ?_
      obtain ⟨v15, e_v15, h⟩ := bnd h
      refine G_zald F dX19_stands_45 e_v15 ?_
      obtain ⟨m16, e_m16, h⟩ := bnd h
      refine G_putVN F okX6 (f := 4) (by decide) q311 rfl rfl dX19_stands_46 (hp_pZ_of e_m16).1 (hp_pZ_of e_m16).2 ?_
      refine G_iinc F (v := (s1_1 + (1 : Int32))) (L2 := [some (.inr a0), some (.inl (s1_1 + (1 : Int32)))]) dX19_stands_49 (by decide) rfl rfl rfl ?_
      refine G_goto F (tgt := 2) dX19_stands_52 (by decide) ?_
      cases h
      exact G_sub F (L2 := [some (.inr a0), some (.inl (s1_1 + (1 : Int32)))]) ⟨rfl, ⟨rfl, trivial⟩⟩ (hP1 _ rfl)
  have hI := iter_ok (fun (s : (Int32 × Hp)) => match s with | (s1_1, m1) => G X cx 2 (Qm X cx none m_ nx 0 0) (0) (0) m1 (nx) [some (.inr a0), some (.inl s1_1)] [] 2) (fun q => q = r1) KB1 _ _ _ hr1 rfl
  exact G_sub F (L2 := [some (.inr a0), some (.inl (0 : Int32))]) ⟨rfl, ⟨rfl, trivial⟩⟩ hI

theorem metX0_orders (X : Gx) {m : Hp} {nx : Nat} {a0 : Option Nat} {a1 : Int32} {rv : Int32} {m_ : Hp} {dc ds : Nat} (h : fX0_orders m nx a0 a1 = some ((rv, m_), dc, ds)) : Con X (7) yX0_orders cX0_orders 4 ((Option.some FieldType.int)) [.inr a0, .inl a1] m nx (some (.inl rv)) m_ dc ds := by
  refine Con.of (own := RX0) (nm := "orders") (L := [some (.inr a0), some (.inl a1), none, none]) (by decide +kernel) rfl rfl (Nat.le_of_ble_eq_true rfl) (ent_of 2 rfl) ?_
  intro cx F
  refine G_iload_n F dX0_orders_0 rfl ?_
  refine G_iconst F (v := (1 : Int32)) dX0_orders_1 (by decide) ?_
  refine G_bipush F (v := (120 : Int32)) dX0_orders_2 (by decide) ?_
  obtain ⟨v1, e_v1, h⟩ := bnd h
  refine G_callSv F (As := [.inl a1, .inl (1 : Int32), .inl (120 : Int32)]) (st := []) (metX0_within X e_v1) (lw_S q422 q423 q102 q424) hdfX0_within ⟨by omega, by decide⟩ rfl (Nat.le_of_ble_eq_true rfl) ⟨by omega, by omega⟩ dX0_orders_4 ?_
  refine G_if_eq F (tgt := 18) dX0_orders_7 (by decide) (fun c2 => ?_) (fun c2 => ?_)
  · have h := itt c2 h
    refine G_iconst F (v := (-1 : Int32)) dX0_orders_18 (by decide) ?_
    cases h
    exact G_iret F rfl (by omega) (by omega) (by omega) dX0_orders_19
  · have h := itf c2 h
    refine G_iload_n F dX0_orders_10 rfl ?_
    refine G_aload_n F dX0_orders_11 rfl ?_
    obtain ⟨v3, e_v3, h⟩ := bnd h
    refine G_getI F okX0 (f := 12) (by decide) q350 rfl dX0_orders_12 e_v3 ?_
    refine G_icmp_le F (tgt := 20) dX0_orders_15 (by decide) (fun c4 => ?_) (fun c4 => ?_)
    · have h := itt c4 h
      refine G_aload_n F dX0_orders_20 rfl ?_
      refine G_iconst F (v := (0 : Int32)) dX0_orders_21 (by decide) ?_
      obtain ⟨m5, e_m5, h⟩ := bnd h
      refine G_putV F okX0 (f := 12) (by decide) q350 rfl rfl dX0_orders_22 (vfit_int _) e_m5 ?_
      obtain ⟨m6, e_m6, h⟩ := bnd h
      obtain ⟨D7, C7, h, hD7, hC7⟩ := andA_of h; try dsimp only at hD7 hC7
      refine G_newc F okX19 (fs := dfX19) q878 q879 q127 (by decide) (by omega) (by omega) dX0_orders_25 e_m6 ?_
      refine G_dup F dX0_orders_28 ?_
      refine G_aload_n F dX0_orders_29 rfl ?_
      refine G_iload_n F dX0_orders_30 rfl ?_
      obtain ⟨⟨m8, d9, c10⟩, e_m8, h⟩ := bnd h
      obtain ⟨D11, C11, h, hD11, hC11⟩ := andA_of h; try dsimp only at hD11 hC11
      refine G_callI0 F (As := [.inr a0, .inl a1]) (st := [.inr (some (nx))]) (metX19_init X e_m8) q882 q127 q880 q881 rfl hdfX19_init ⟨by omega, by decide⟩ rfl (Nat.le_of_ble_eq_true rfl) ⟨by omega, by omega⟩ dX0_orders_31 ?_
      refine G_astore_n F (L2 := [some (.inr a0), some (.inl a1), some (.inr (some (nx))), none]) dX0_orders_34 (by decide) rfl ?_
      refine G_aload_n F dX0_orders_35 rfl ?_
      obtain ⟨⟨⟨v12, m13⟩, d14, c15⟩, e_v12, h⟩ := bnd h
      obtain ⟨D16, C16, h, hD16, hC16⟩ := andA_of h; try dsimp only at hD16 hC16
      obtain ⟨hc_v12, e_v12⟩ := hp_on_of e_v12
      refine G_callUv F (As := []) (st := []) (x := ⟨"MissedTrains$Porter", "read", "()I"⟩) (owner := "MissedTrains$Scribe") (metX17_readp X e_v12) hc_v12 rfl (lw_U q899 q900 q901 q751 q125 q752) rfl hdfX17_read ⟨by omega, by decide⟩ rfl (Nat.le_of_ble_eq_true rfl) ⟨by omega, by omega⟩ dX0_orders_36 ?_
      refine G_istore_n F (L2 := [some (.inr a0), some (.inl a1), some (.inr (some (nx))), some (.inl v12)]) dX0_orders_39 (by decide) rfl ?_
      refine G_iload_n F dX0_orders_40 rfl ?_
      refine G_if_lt F (tgt := 48) dX0_orders_41 (by decide) (fun c17 => ?_) (fun c17 => ?_)
      · have h := itt c17 h
        refine G_iload_n F dX0_orders_48 rfl ?_
        cases h
        exact G_iret F rfl (by omega) (by omega) (by omega) dX0_orders_49
      · have h := itf c17 h
        refine G_aload_n F dX0_orders_44 rfl ?_
        obtain ⟨m18, e_m18, h⟩ := bnd h
        obtain ⟨hc_m18, e_m18⟩ := hp_on_of e_m18
        refine G_callV0 F (As := []) (st := []) (metX19_stands X e_m18) hc_m18 rfl rfl (lw_V q902 q903 q904 q127 q905) hdfX19_stands ⟨by omega, by decide⟩ rfl (Nat.le_of_ble_eq_true rfl) ⟨by omega, by omega⟩ dX0_orders_45 ?_
        refine G_iload_n F dX0_orders_48 rfl ?_
        cases h
        exact G_iret F rfl (by omega) (by omega) (by omega) dX0_orders_49
    · have h := itf c4 h
      refine G_iconst F (v := (-1 : Int32)) dX0_orders_18 (by decide) ?_
      cases h
      exact G_iret F rfl (by omega) (by omega) (by omega) dX0_orders_19

theorem metX3_draw (X : Gx) {m : Hp} {nx : Nat} {a0 : Option Nat} {rv : Int32} {m_ : Hp} (h : fX3_draw m a0 = some (rv, m_)) : Con X (1) yX3_draw cX3_draw 1 ((Option.some FieldType.int)) [.inr a0] m nx (some (.inl rv)) m_ 0 0 := by
  refine Con.of (own := RX3) (nm := "draw") (L := [some (.inr a0)]) (by decide +kernel) rfl rfl (Nat.le_of_ble_eq_true rfl) (ent_of 0 rfl) ?_
  intro cx F
  refine G_aload_n F dX3_draw_0 rfl ?_
  refine G_sipush F (v := (25173 : Int32)) dX3_draw_1 (by decide) ?_
  refine G_aload_n F dX3_draw_4 rfl ?_
  obtain ⟨v1, e_v1, h⟩ := bnd h
  refine G_getI F okX3 (f := 4) (by decide) q231 rfl dX3_draw_5 e_v1 ?_
  refine G_imul F dX3_draw_8 ?_
  refine G_sipush F (v := (13849 : Int32)) dX3_draw_9 (by decide) ?_
  refine G_iadd F dX3_draw_12 ?_
  refine G_ldc F q926 dX3_draw_13 ?_
  refine G_irem F (by decide) dX3_draw_15 ?_
  obtain ⟨m2, e_m2, h⟩ := bnd h
  refine G_putV F okX3 (f := 4) (by decide) q231 rfl rfl dX3_draw_16 (vfit_int _) e_m2 ?_
  refine G_aload_n F dX3_draw_19 rfl ?_
  obtain ⟨v3, e_v3, h⟩ := bnd h
  refine G_getI F okX3 (f := 4) (by decide) q231 rfl dX3_draw_20 e_v3 ?_
  refine G_bipush F (v := (10 : Int32)) dX3_draw_23 (by decide) ?_
  refine G_irem F (by decide) dX3_draw_25 ?_
  cases h
  exact G_iret F rfl (Nat.le_refl _) (Nat.le_refl _) rfl dX3_draw_26

theorem metX3_waiting (X : Gx) {m : Hp} {nx : Nat} {a0 : Option Nat} {a1 : Int32} {rv : Int32} (h : fX3_waiting m a0 a1 = some rv) : Con X (1) yX3_waiting cX3_waiting 4 ((Option.some FieldType.int)) [.inr a0, .inl a1] m nx (some (.inl rv)) m 0 0 := by
  refine Con.of (own := RX3) (nm := "waiting") (L := [some (.inr a0), some (.inl a1), none, none]) (by decide +kernel) rfl rfl (Nat.le_of_ble_eq_true rfl) (ent_of 2 rfl) ?_
  intro cx F
  refine G_iconst F (v := (0 : Int32)) dX3_waiting_0 (by decide) ?_
  refine G_istore_n F (L2 := [some (.inr a0), some (.inl a1), some (.inl (0 : Int32)), none]) dX3_waiting_1 (by decide) rfl ?_
  refine G_iconst F (v := (0 : Int32)) dX3_waiting_2 (by decide) ?_
  refine G_istore_n F (L2 := [some (.inr a0), some (.inl a1), some (.inl (0 : Int32)), some (.inl (0 : Int32))]) dX3_waiting_3 (by decide) rfl ?_
  obtain ⟨r1, hr1, h⟩ := bnd h
  have KE1 : ∀ (v14 : Int32), v14 = r1 → G X cx 4 (Qm X cx (some (.inl rv)) m nx 0 0) (0) (0) m (nx) [none, none, some (.inl v14), none] [] 59 := by
    intro v14 hq
    subst hq
    try dsimp only at h
    refine G_iload_n F dX3_waiting_59 rfl ?_
    cases h
    exact G_iret F rfl (Nat.le_refl _) (Nat.le_refl _) rfl dX3_waiting_60
  have KB1 : ∀ s o1, fX3_waiting_L4 m a0 a1 s = some o1 → (∀ s', o1 = Sum.inl s' → (fun (s : (Int32 × Int32)) => match s with | (s2_1, s3_1) => G X cx 4 (Qm X cx (some (.inl rv)) m nx 0 0) (0) (0) m (nx) [some (.inr a0), some (.inl a1), some (.inl s2_1), some (.inl s3_1)] [] 4) s') → (∀ q, o1 = Sum.inr q → q = r1) → (fun (s : (Int32 × Int32)) => match s with | (s2_1, s3_1) => G X cx 4 (Qm X cx (some (.inl rv)) m nx 0 0) (0) (0) m (nx) [some (.inr a0), some (.inl a1), some (.inl s2_1), some (.inl s3_1)] [] 4) s := by
    intro s o1 h hP1 hE1
    obtain ⟨s2_1, s3_1⟩ := s
    try dsimp only at hP1 hE1 ⊢
    refine G_iload_n F dX3_waiting_4 rfl ?_
    refine G_bipush F (v := (12 : Int32)) dX3_waiting_5 (by decide) ?_
    refine G_icmp_ge F (tgt := 59) dX3_waiting_7 (by decide) (fun c2 => ?_) (fun c2 => ?_)
    · have h := itt c2 h
      cases h
      exact G_sub F (L2 := [none, none, some (.inl s2_1), none]) ⟨rfl, trivial⟩ (KE1 _ (hE1 _ rfl))
    · have h := itf c2 h
      refine G_iload_n F dX3_waiting_10 rfl ?_
      refine G_aload_n F dX3_waiting_11 rfl ?_
      obtain ⟨v3, e_v3, h⟩ := bnd h
      refine G_getR F okX3 (f := 0) (by decide) q225 rfl dX3_waiting_12 e_v3 ?_
      refine G_iload_n F dX3_waiting_15 rfl ?_
      obtain ⟨v4, e_v4, h⟩ := bnd h
      refine G_aald F (t := 6) (by decide) dX3_waiting_16 e_v4 ?_
      obtain ⟨v5, e_v5, h⟩ := bnd h
      refine G_getIN F okX4 (f := 5) (by decide) q210 rfl dX3_waiting_17 e_v5 ?_
      refine G_if_eq F (tgt := 50) dX3_waiting_20 (by decide) (fun c6 => ?_) (fun c6 => ?_)
      · have h := itt c6 h
        refine G_iconst F (v := (0 : Int32)) dX3_waiting_50 (by decide) ?_
        refine G_iadd F dX3_waiting_51 ?_
        refine G_istore_n F (L2 := [some (.inr a0), some (.inl a1), some (.inl (s2_1 + (0 : Int32))), some (.inl s3_1)]) dX3_waiting_52 (by decide) rfl ?_
        refine G_iinc F (v := (s3_1 + (1 : Int32))) (L2 := [some (.inr a0), some (.inl a1), some (.inl (s2_1 + (0 : Int32))), some (.inl (s3_1 + (1 : Int32)))]) dX3_waiting_53 (by decide) rfl rfl rfl ?_
        refine G_goto F (tgt := 4) dX3_waiting_56 (by decide) ?_
        cases h
        exact G_sub F (L2 := [some (.inr a0), some (.inl a1), some (.inl (s2_1 + (0 : Int32))), some (.inl (s3_1 + (1 : Int32)))]) ⟨rfl, ⟨rfl, ⟨rfl, ⟨rfl, trivial⟩⟩⟩⟩ (hP1 _ rfl)
      · have h := itf c6 h
        refine G_aload_n F dX3_waiting_23 rfl ?_
        obtain ⟨v7, e_v7, h⟩ := bnd h
        refine G_getR F okX3 (f := 0) (by decide) q225 rfl dX3_waiting_24 e_v7 ?_
        refine G_iload_n F dX3_waiting_27 rfl ?_
        obtain ⟨v8, e_v8, h⟩ := bnd h
        refine G_aald F (t := 6) (by decide) dX3_waiting_28 e_v8 ?_
        obtain ⟨v9, e_v9, h⟩ := bnd h
        refine G_getIN F okX4 (f := 0) (by decide) q195 rfl dX3_waiting_29 e_v9 ?_
        refine G_iload_n F dX3_waiting_32 rfl ?_
        refine G_icmp_ne F (tgt := 50) dX3_waiting_33 (by decide) (fun c10 => ?_) (fun c10 => ?_)
        · have h := itf c10 h
          refine G_iconst F (v := (0 : Int32)) dX3_waiting_50 (by decide) ?_
          refine G_iadd F dX3_waiting_51 ?_
          refine G_istore_n F (L2 := [some (.inr a0), some (.inl a1), some (.inl (s2_1 + (0 : Int32))), some (.inl s3_1)]) dX3_waiting_52 (by decide) rfl ?_
          refine G_iinc F (v := (s3_1 + (1 : Int32))) (L2 := [some (.inr a0), some (.inl a1), some (.inl (s2_1 + (0 : Int32))), some (.inl (s3_1 + (1 : Int32)))]) dX3_waiting_53 (by decide) rfl rfl rfl ?_
          refine G_goto F (tgt := 4) dX3_waiting_56 (by decide) ?_
          cases h
          exact G_sub F (L2 := [some (.inr a0), some (.inl a1), some (.inl (s2_1 + (0 : Int32))), some (.inl (s3_1 + (1 : Int32)))]) ⟨rfl, ⟨rfl, ⟨rfl, ⟨rfl, trivial⟩⟩⟩⟩ (hP1 _ rfl)
        · have h := itt c10 h
          refine G_aload_n F dX3_waiting_36 rfl ?_
          obtain ⟨v11, e_v11, h⟩ := bnd h
          refine G_getR F okX3 (f := 2) (by decide) q228 rfl dX3_waiting_37 e_v11 ?_
          refine G_iload_n F dX3_waiting_40 rfl ?_
          obtain ⟨v12, e_v12, h⟩ := bnd h
          refine G_iald F dX3_waiting_41 e_v12 ?_
          refine G_iconst F (v := (-1 : Int32)) dX3_waiting_42 (by decide) ?_
          refine G_icmp_ne F (tgt := 50) dX3_waiting_43 (by decide) (fun c13 => ?_) (fun c13 => ?_)
          · have h := itf c13 h
            refine G_iconst F (v := (0 : Int32)) dX3_waiting_50 (by decide) ?_
            refine G_iadd F dX3_waiting_51 ?_
            refine G_istore_n F (L2 := [some (.inr a0), some (.inl a1), some (.inl (s2_1 + (0 : Int32))), some (.inl s3_1)]) dX3_waiting_52 (by decide) rfl ?_
            refine G_iinc F (v := (s3_1 + (1 : Int32))) (L2 := [some (.inr a0), some (.inl a1), some (.inl (s2_1 + (0 : Int32))), some (.inl (s3_1 + (1 : Int32)))]) dX3_waiting_53 (by decide) rfl rfl rfl ?_
            refine G_goto F (tgt := 4) dX3_waiting_56 (by decide) ?_
            cases h
            exact G_sub F (L2 := [some (.inr a0), some (.inl a1), some (.inl (s2_1 + (0 : Int32))), some (.inl (s3_1 + (1 : Int32)))]) ⟨rfl, ⟨rfl, ⟨rfl, ⟨rfl, trivial⟩⟩⟩⟩ (hP1 _ rfl)
          · have h := itt c13 h
            refine G_iconst F (v := (1 : Int32)) dX3_waiting_46 (by decide) ?_
            refine G_goto F (tgt := 51) dX3_waiting_47 (by decide) ?_
            refine G_iadd F dX3_waiting_51 ?_
            refine G_istore_n F (L2 := [some (.inr a0), some (.inl a1), some (.inl (s2_1 + (1 : Int32))), some (.inl s3_1)]) dX3_waiting_52 (by decide) rfl ?_
            refine G_iinc F (v := (s3_1 + (1 : Int32))) (L2 := [some (.inr a0), some (.inl a1), some (.inl (s2_1 + (1 : Int32))), some (.inl (s3_1 + (1 : Int32)))]) dX3_waiting_53 (by decide) rfl rfl rfl ?_
            refine G_goto F (tgt := 4) dX3_waiting_56 (by decide) ?_
            cases h
            exact G_sub F (L2 := [some (.inr a0), some (.inl a1), some (.inl (s2_1 + (1 : Int32))), some (.inl (s3_1 + (1 : Int32)))]) ⟨rfl, ⟨rfl, ⟨rfl, ⟨rfl, trivial⟩⟩⟩⟩ (hP1 _ rfl)
  have hI := iter_ok (fun (s : (Int32 × Int32)) => match s with | (s2_1, s3_1) => G X cx 4 (Qm X cx (some (.inl rv)) m nx 0 0) (0) (0) m (nx) [some (.inr a0), some (.inl a1), some (.inl s2_1), some (.inl s3_1)] [] 4) (fun q => q = r1) KB1 _ _ _ hr1 rfl
  exact G_sub F (L2 := [some (.inr a0), some (.inl a1), some (.inl (0 : Int32)), some (.inl (0 : Int32))]) ⟨rfl, ⟨rfl, ⟨rfl, ⟨rfl, trivial⟩⟩⟩⟩ hI

theorem metX2_of (X : Gx) {m : Hp} {nx : Nat} {a0 : Option Nat} {a1 : Int32} {a2 : Int32} {a3 : Int32} {a4 : Int32} {a5 : Int32} {a6 : Int32} {a7 : Int32} {rv : Option Nat} {m_ : Hp} (h : fX2_of m a0 a1 a2 a3 a4 a5 a6 a7 = some (rv, m_)) : Con X (1) yX2_of cX2_of 8 ((Option.some (FieldType.object "MissedTrains$Moment"))) [.inr a0, .inl a1, .inl a2, .inl a3, .inl a4, .inl a5, .inl a6, .inl a7] m nx (some (.inr rv)) m_ 0 0 := by
  refine Con.of (own := RX2) (nm := "of") (L := [some (.inr a0), some (.inl a1), some (.inl a2), some (.inl a3), some (.inl a4), some (.inl a5), some (.inl a6), some (.inl a7)]) (by decide +kernel) rfl rfl (Nat.le_of_ble_eq_true rfl) (ent_of 0 rfl) ?_
  intro cx F
  refine G_aload_n F dX2_of_0 rfl ?_
  refine G_iload_n F dX2_of_1 rfl ?_
  obtain ⟨m1, e_m1, h⟩ := bnd h
  refine G_putV F okX2 (f := 1) (by decide) q147 rfl rfl dX2_of_2 (vfit_int _) e_m1 ?_
  refine G_aload_n F dX2_of_5 rfl ?_
  refine G_iload_n F dX2_of_6 rfl ?_
  obtain ⟨m2, e_m2, h⟩ := bnd h
  refine G_putV F okX2 (f := 2) (by decide) q148 rfl rfl dX2_of_7 (vfit_int _) e_m2 ?_
  refine G_aload_n F dX2_of_10 rfl ?_
  refine G_iload_n F dX2_of_11 rfl ?_
  obtain ⟨m3, e_m3, h⟩ := bnd h
  refine G_putV F okX2 (f := 3) (by decide) q149 rfl rfl dX2_of_12 (vfit_int _) e_m3 ?_
  refine G_aload_n F dX2_of_15 rfl ?_
  refine G_iload F dX2_of_16 rfl ?_
  obtain ⟨m4, e_m4, h⟩ := bnd h
  refine G_putV F okX2 (f := 4) (by decide) q150 rfl rfl dX2_of_18 (vfit_int _) e_m4 ?_
  refine G_aload_n F dX2_of_21 rfl ?_
  refine G_iload F dX2_of_22 rfl ?_
  obtain ⟨m5, e_m5, h⟩ := bnd h
  refine G_putV F okX2 (f := 5) (by decide) q151 rfl rfl dX2_of_24 (vfit_int _) e_m5 ?_
  refine G_aload_n F dX2_of_27 rfl ?_
  refine G_iconst F (v := (0 : Int32)) dX2_of_28 (by decide) ?_
  obtain ⟨m6, e_m6, h⟩ := bnd h
  refine G_putV F okX2 (f := 6) (by decide) q152 rfl rfl dX2_of_29 (vfit_int _) e_m6 ?_
  refine G_aload_n F dX2_of_32 rfl ?_
  refine G_iconst F (v := (0 : Int32)) dX2_of_33 (by decide) ?_
  obtain ⟨m7, e_m7, h⟩ := bnd h
  refine G_putV F okX2 (f := 7) (by decide) q153 rfl rfl dX2_of_34 (vfit_int _) e_m7 ?_
  refine G_aload_n F dX2_of_37 rfl ?_
  refine G_iload F dX2_of_38 rfl ?_
  refine G_bipush F (v := (7 : Int32)) dX2_of_40 (by decide) ?_
  refine G_irem F (by decide) dX2_of_42 ?_
  obtain ⟨m8, e_m8, h⟩ := bnd h
  refine G_putV F okX2 (f := 8) (by decide) q154 rfl rfl dX2_of_43 (vfit_int _) e_m8 ?_
  refine G_aload_n F dX2_of_46 rfl ?_
  refine G_iload F dX2_of_47 rfl ?_
  obtain ⟨m9, e_m9, h⟩ := bnd h
  refine G_putV F okX2 (f := 9) (by decide) q155 rfl rfl dX2_of_49 (vfit_int _) e_m9 ?_
  refine G_aload_n F dX2_of_52 rfl ?_
  cases h
  exact G_aret F rfl (Nat.le_refl _) (Nat.le_refl _) rfl dX2_of_53

theorem metX3_arrives (X : Gx) {m : Hp} {nx : Nat} {a0 : Option Nat} {a1 : Int32} {a2 : Int32} {m_ : Hp} (h : fX3_arrives m a0 a1 a2 = some m_) : Con X (2) yX3_arrives cX3_arrives 5 ((none : Option FieldType)) [.inr a0, .inl a1, .inl a2] m nx none m_ 0 0 := by
  refine Con.of (own := RX3) (nm := "arrives") (L := [some (.inr a0), some (.inl a1), some (.inl a2), none, none]) (by decide +kernel) rfl rfl (Nat.le_of_ble_eq_true rfl) (ent_of 2 rfl) ?_
  intro cx F
  refine G_iconst F (v := (0 : Int32)) dX3_arrives_0 (by decide) ?_
  refine G_istore_n F (L2 := [some (.inr a0), some (.inl a1), some (.inl a2), some (.inl (0 : Int32)), none]) dX3_arrives_1 (by decide) rfl ?_
  obtain ⟨r1, hr1, h⟩ := bnd h
  have KE1 : ∀ (m18 : Hp), m18 = r1 → G X cx 5 (Qm X cx none m_ nx 0 0) (0) (0) m18 (nx) [none, none, none, none, none] [] 88 := by
    intro m18 hq
    subst hq
    try dsimp only at h
    cases h
    exact G_vret F rfl (Nat.le_refl _) (Nat.le_refl _) rfl dX3_arrives_88
  have KB1 : ∀ s o1, fX3_arrives_L2 a0 a1 a2 s = some o1 → (∀ s', o1 = Sum.inl s' → (fun (s : (Int32 × Hp)) => match s with | (s3_1, m1) => G X cx 5 (Qm X cx none m_ nx 0 0) (0) (0) m1 (nx) [some (.inr a0), some (.inl a1), some (.inl a2), some (.inl s3_1), none] [] 2) s') → (∀ q, o1 = Sum.inr q → q = r1) → (fun (s : (Int32 × Hp)) => match s with | (s3_1, m1) => G X cx 5 (Qm X cx none m_ nx 0 0) (0) (0) m1 (nx) [some (.inr a0), some (.inl a1), some (.inl a2), some (.inl s3_1), none] [] 2) s := by
    intro s o1 h hP1 hE1
    obtain ⟨s3_1, m1⟩ := s
    try dsimp only at hP1 hE1 ⊢
    refine G_iload_n F dX3_arrives_2 rfl ?_
    refine G_bipush F (v := (12 : Int32)) dX3_arrives_3 (by decide) ?_
    refine G_icmp_ge F (tgt := 88) dX3_arrives_5 (by decide) (fun c2 => ?_) (fun c2 => ?_)
    · have h := itt c2 h
      cases h
      exact G_sub F (L2 := [none, none, none, none, none]) trivial (KE1 _ (hE1 _ rfl))
    · have h := itf c2 h
      refine G_aload_n F dX3_arrives_8 rfl ?_
      obtain ⟨v3, e_v3, h⟩ := bnd h
      refine G_getR F okX3 (f := 0) (by decide) q225 rfl dX3_arrives_9 e_v3 ?_
      refine G_iload_n F dX3_arrives_12 rfl ?_
      obtain ⟨v4, e_v4, h⟩ := bnd h
      refine G_aald F (t := 6) (by decide) dX3_arrives_13 e_v4 ?_
      refine G_astore F (L2 := [some (.inr a0), some (.inl a1), some (.inl a2), some (.inl s3_1), some (.inr v4)]) dX3_arrives_14 (by decide) rfl ?_
      refine G_aload F dX3_arrives_16 rfl ?_
      obtain ⟨v5, e_v5, h⟩ := bnd h
      refine G_getIN F okX4 (f := 5) (by decide) q210 rfl dX3_arrives_18 e_v5 ?_
      refine G_if_eq F (tgt := 82) dX3_arrives_21 (by decide) (fun c6 => ?_) (fun c6 => ?_)
      · have h := itt c6 h
        refine G_iinc F (v := (s3_1 + (1 : Int32))) (L2 := [some (.inr a0), some (.inl a1), some (.inl a2), some (.inl (s3_1 + (1 : Int32))), some (.inr v4)]) dX3_arrives_82 (by decide) rfl rfl rfl ?_
        refine G_goto F (tgt := 2) dX3_arrives_85 (by decide) ?_
        cases h
        exact G_sub F (L2 := [some (.inr a0), some (.inl a1), some (.inl a2), some (.inl (s3_1 + (1 : Int32))), none]) ⟨rfl, ⟨rfl, ⟨rfl, ⟨rfl, trivial⟩⟩⟩⟩ (hP1 _ rfl)
      · have h := itf c6 h
        refine G_aload_n F dX3_arrives_24 rfl ?_
        obtain ⟨v7, e_v7, h⟩ := bnd h
        refine G_getR F okX3 (f := 2) (by decide) q228 rfl dX3_arrives_25 e_v7 ?_
        refine G_iload_n F dX3_arrives_28 rfl ?_
        obtain ⟨v8, e_v8, h⟩ := bnd h
        refine G_iald F dX3_arrives_29 e_v8 ?_
        refine G_iload_n F dX3_arrives_30 rfl ?_
        refine G_icmp_ne F (tgt := 82) dX3_arrives_31 (by decide) (fun c9 => ?_) (fun c9 => ?_)
        · have h := itf c9 h
          refine G_iinc F (v := (s3_1 + (1 : Int32))) (L2 := [some (.inr a0), some (.inl a1), some (.inl a2), some (.inl (s3_1 + (1 : Int32))), some (.inr v4)]) dX3_arrives_82 (by decide) rfl rfl rfl ?_
          refine G_goto F (tgt := 2) dX3_arrives_85 (by decide) ?_
          cases h
          exact G_sub F (L2 := [some (.inr a0), some (.inl a1), some (.inl a2), some (.inl (s3_1 + (1 : Int32))), none]) ⟨rfl, ⟨rfl, ⟨rfl, ⟨rfl, trivial⟩⟩⟩⟩ (hP1 _ rfl)
        · have h := itt c9 h
          refine G_aload F dX3_arrives_34 rfl ?_
          obtain ⟨v10, e_v10, h⟩ := bnd h
          refine G_getIN F okX4 (f := 1) (by decide) q198 rfl dX3_arrives_36 e_v10 ?_
          refine G_iload_n F dX3_arrives_39 rfl ?_
          refine G_icmp_eq F (tgt := 46) dX3_arrives_40 (by decide) (fun c11 => ?_) (fun c11 => ?_)
          · have h := itt c11 h
            refine G_aload_n F dX3_arrives_46 rfl ?_
            obtain ⟨v12, e_v12, h⟩ := bnd h
            refine G_getR F okX3 (f := 2) (by decide) q228 rfl dX3_arrives_47 e_v12 ?_
            refine G_iload_n F dX3_arrives_50 rfl ?_
            refine G_bipush F (v := (48 : Int32)) dX3_arrives_51 (by decide) ?_
            obtain ⟨m13, e_m13, h⟩ := bnd h
            refine G_iast F dX3_arrives_53 e_m13 ?_
            refine G_aload F dX3_arrives_54 rfl ?_
            refine G_sipush F (v := (9999 : Int32)) dX3_arrives_56 (by decide) ?_
            refine G_aload F dX3_arrives_59 rfl ?_
            obtain ⟨v14, e_v14, h⟩ := bnd h
            refine G_getIN F okX4 (f := 3) (by decide) q204 rfl dX3_arrives_61 e_v14 ?_
            refine G_iconst F (v := (1 : Int32)) dX3_arrives_64 (by decide) ?_
            refine G_iadd F dX3_arrives_65 ?_
            refine G_mmin F q998 q517 q113 q518 (by omega) (Nat.le_of_ble_eq_true rfl) ⟨by omega, by omega⟩ dX3_arrives_66 ?_
            obtain ⟨m15, e_m15, h⟩ := bnd h
            refine G_putVN F okX4 (f := 3) (by decide) q204 rfl rfl dX3_arrives_69 (vfit_int _) e_m15 ?_
            refine G_aload_n F dX3_arrives_72 rfl ?_
            refine G_dup F dX3_arrives_73 ?_
            obtain ⟨v16, e_v16, h⟩ := bnd h
            refine G_getI F okX3 (f := 5) (by decide) q233 rfl dX3_arrives_74 e_v16 ?_
            refine G_iconst F (v := (1 : Int32)) dX3_arrives_77 (by decide) ?_
            refine G_iadd F dX3_arrives_78 ?_
            obtain ⟨m17, e_m17, h⟩ := bnd h
            refine G_putV F okX3 (f := 5) (by decide) q233 rfl rfl dX3_arrives_79 (vfit_int _) e_m17 ?_
            refine G_iinc F (v := (s3_1 + (1 : Int32))) (L2 := [some (.inr a0), some (.inl a1), some (.inl a2), some (.inl (s3_1 + (1 : Int32))), some (.inr v4)]) dX3_arrives_82 (by decide) rfl rfl rfl ?_
            refine G_goto F (tgt := 2) dX3_arrives_85 (by decide) ?_
            cases h
            exact G_sub F (L2 := [some (.inr a0), some (.inl a1), some (.inl a2), some (.inl (s3_1 + (1 : Int32))), none]) ⟨rfl, ⟨rfl, ⟨rfl, ⟨rfl, trivial⟩⟩⟩⟩ (hP1 _ rfl)
          · have h := itf c11 h
            refine G_goto F (tgt := 82) dX3_arrives_43 (by decide) ?_
            refine G_iinc F (v := (s3_1 + (1 : Int32))) (L2 := [some (.inr a0), some (.inl a1), some (.inl a2), some (.inl (s3_1 + (1 : Int32))), some (.inr v4)]) dX3_arrives_82 (by decide) rfl rfl rfl ?_
            refine G_goto F (tgt := 2) dX3_arrives_85 (by decide) ?_
            cases h
            exact G_sub F (L2 := [some (.inr a0), some (.inl a1), some (.inl a2), some (.inl (s3_1 + (1 : Int32))), none]) ⟨rfl, ⟨rfl, ⟨rfl, ⟨rfl, trivial⟩⟩⟩⟩ (hP1 _ rfl)
  have hI := iter_ok (fun (s : (Int32 × Hp)) => match s with | (s3_1, m1) => G X cx 5 (Qm X cx none m_ nx 0 0) (0) (0) m1 (nx) [some (.inr a0), some (.inl a1), some (.inl a2), some (.inl s3_1), none] [] 2) (fun q => q = r1) KB1 _ _ _ hr1 rfl
  exact G_sub F (L2 := [some (.inr a0), some (.inl a1), some (.inl a2), some (.inl (0 : Int32)), none]) ⟨rfl, ⟨rfl, ⟨rfl, ⟨rfl, trivial⟩⟩⟩⟩ hI

theorem metX2_with (X : Gx) {m : Hp} {nx : Nat} {a0 : Option Nat} {a1 : Int32} {a2 : Int32} {rv : Option Nat} {m_ : Hp} (h : fX2_with m a0 a1 a2 = some (rv, m_)) : Con X (1) yX2_with cX2_with 3 ((Option.some (FieldType.object "MissedTrains$Moment"))) [.inr a0, .inl a1, .inl a2] m nx (some (.inr rv)) m_ 0 0 := by
  refine Con.of (own := RX2) (nm := "with") (L := [some (.inr a0), some (.inl a1), some (.inl a2)]) (by decide +kernel) rfl rfl (Nat.le_of_ble_eq_true rfl) (ent_of 0 rfl) ?_
  intro cx F
  refine G_aload_n F dX2_with_0 rfl ?_
  refine G_iload_n F dX2_with_1 rfl ?_
  obtain ⟨m1, e_m1, h⟩ := bnd h
  refine G_putV F okX2 (f := 6) (by decide) q152 rfl rfl dX2_with_2 (vfit_int _) e_m1 ?_
  refine G_aload_n F dX2_with_5 rfl ?_
  refine G_iload_n F dX2_with_6 rfl ?_
  obtain ⟨m2, e_m2, h⟩ := bnd h
  refine G_putV F okX2 (f := 7) (by decide) q153 rfl rfl dX2_with_7 (vfit_int _) e_m2 ?_
  refine G_aload_n F dX2_with_10 rfl ?_
  cases h
  exact G_aret F rfl (Nat.le_refl _) (Nat.le_refl _) rfl dX2_with_11

theorem metX5_says (X : Gx) {m : Hp} {nx : Nat} {a0 : Option Nat} {a1 : Int32} {a2 : Option Nat} {rv : Int32} {m_ : Hp} (h : fX5_says m a0 a1 a2 = some (rv, m_)) : Con X (186) yX5_says cX5_says 4 ((Option.some FieldType.boolean)) [.inr a0, .inl a1, .inr a2] m nx (some (.inl rv)) m_ 0 0 := by
  refine Con.of (own := RX5) (nm := "says") (L := [some (.inr a0), some (.inl a1), some (.inr a2), none]) (by decide +kernel) rfl rfl (Nat.le_of_ble_eq_true rfl) (ent_of 1 rfl) ?_
  intro cx F
  refine G_iconst F (v := (0 : Int32)) dX5_says_0 (by decide) ?_
  refine G_istore_n F (L2 := [some (.inr a0), some (.inl a1), some (.inr a2), some (.inl (0 : Int32))]) dX5_says_1 (by decide) rfl ?_
  obtain ⟨r1, hr1, h⟩ := bnd h
  have KE1 : ∀ (m12 : Hp), Sum.inl m12 = r1 → G X cx 4 (Qm X cx (some (.inl rv)) m_ nx 0 0) (0) (0) m12 (nx) [none, none, none, none] [] 42 := by
    intro m12 hq
    subst hq
    try dsimp only at h
    refine G_iconst F (v := (0 : Int32)) dX5_says_42 (by decide) ?_
    cases h
    exact G_zret F rfl (Or.inl rfl) (Nat.le_refl _) (Nat.le_refl _) rfl dX5_says_43
  have KR1 : ∀ q, Sum.inr q = r1 → some q = some (rv, m_) := by
    intro q hq
    subst hq
    exact h
  have KB1 : ∀ s o1, fX5_says_L2 a0 a1 a2 s = some o1 → (∀ s', o1 = Sum.inl s' → (fun (s : (Int32 × Hp)) => match s with | (s3_1, m1) => G X cx 4 (Qm X cx (some (.inl rv)) m_ nx 0 0) (0) (0) m1 (nx) [some (.inr a0), some (.inl a1), some (.inr a2), some (.inl s3_1)] [] 2) s') → (∀ q, o1 = Sum.inr q → q = r1) → (fun (s : (Int32 × Hp)) => match s with | (s3_1, m1) => G X cx 4 (Qm X cx (some (.inl rv)) m_ nx 0 0) (0) (0) m1 (nx) [some (.inr a0), some (.inl a1), some (.inr a2), some (.inl s3_1)] [] 2) s := by
    intro s o1 h hP1 hE1
    obtain ⟨s3_1, m1⟩ := s
    try dsimp only at hP1 hE1 ⊢
    refine G_iload_n F dX5_says_2 rfl ?_
    refine G_aload_n F dX5_says_3 rfl ?_
    obtain ⟨v2, e_v2, h⟩ := bnd h
    refine G_getI F okX5 (f := 3) (by decide) q275 rfl dX5_says_4 e_v2 ?_
    refine G_icmp_ge F (tgt := 42) dX5_says_7 (by decide) (fun c3 => ?_) (fun c3 => ?_)
    · have h := itt c3 h
      cases h
      exact G_sub F (L2 := [none, none, none, none]) trivial (KE1 _ (hE1 _ rfl))
    · have h := itf c3 h
      refine G_aload_n F dX5_says_10 rfl ?_
      obtain ⟨v4, e_v4, h⟩ := bnd h
      refine G_getR F okX5 (f := 0) (by decide) q269 rfl dX5_says_11 e_v4 ?_
      refine G_iload_n F dX5_says_14 rfl ?_
      obtain ⟨v5, e_v5, h⟩ := bnd h
      refine G_iald F dX5_says_15 e_v5 ?_
      refine G_iload_n F dX5_says_16 rfl ?_
      refine G_icmp_ne F (tgt := 36) dX5_says_17 (by decide) (fun c6 => ?_) (fun c6 => ?_)
      · have h := itf c6 h
        refine G_iinc F (v := (s3_1 + (1 : Int32))) (L2 := [some (.inr a0), some (.inl a1), some (.inr a2), some (.inl (s3_1 + (1 : Int32)))]) dX5_says_36 (by decide) rfl rfl rfl ?_
        refine G_goto F (tgt := 2) dX5_says_39 (by decide) ?_
        cases h
        exact G_sub F (L2 := [some (.inr a0), some (.inl a1), some (.inr a2), some (.inl (s3_1 + (1 : Int32)))]) ⟨rfl, ⟨rfl, ⟨rfl, ⟨rfl, trivial⟩⟩⟩⟩ (hP1 _ rfl)
      · have h := itt c6 h
        refine G_aload_n F dX5_says_20 rfl ?_
        obtain ⟨v7, e_v7, h⟩ := bnd h
        refine G_getR F okX5 (f := 2) (by decide) q273 rfl dX5_says_21 e_v7 ?_
        refine G_iload_n F dX5_says_24 rfl ?_
        obtain ⟨v8, e_v8, h⟩ := bnd h
        refine G_aald F (t := 4) (by decide) dX5_says_25 e_v8 ?_
        refine G_aload_n F dX5_says_26 rfl ?_
        obtain ⟨⟨v9, m10⟩, e_v9, h⟩ := bnd h
        obtain ⟨dc_, hd_, hw_v9⟩ := con_holds X 60 _ (nx) _ _ _ _ e_v9
        have K_v9 : G X cx 4 (Qm X cx (some (.inl rv)) m_ nx 0 0) (0) (0) m10 (nx) [some (.inr a0), some (.inl a1), some (.inr a2), some (.inl s3_1)] [.inl v9] 30 := by
          refine G_iconst F (v := (1 : Int32)) dX5_says_30 (by decide) ?_
          refine G_icmp_ne F (tgt := 36) dX5_says_31 (by decide) (fun c11 => ?_) (fun c11 => ?_)
          · have h := itf c11 h
            refine G_iinc F (v := (s3_1 + (1 : Int32))) (L2 := [some (.inr a0), some (.inl a1), some (.inr a2), some (.inl (s3_1 + (1 : Int32)))]) dX5_says_36 (by decide) rfl rfl rfl ?_
            refine G_goto F (tgt := 2) dX5_says_39 (by decide) ?_
            cases h
            exact G_sub F (L2 := [some (.inr a0), some (.inl a1), some (.inr a2), some (.inl (s3_1 + (1 : Int32)))]) ⟨rfl, ⟨rfl, ⟨rfl, ⟨rfl, trivial⟩⟩⟩⟩ (hP1 _ rfl)
          · have h := itt c11 h
            refine G_iconst F (v := (1 : Int32)) dX5_says_34 (by decide) ?_
            cases h
            have h := KR1 _ (hE1 _ rfl)
            cases h
            exact G_zret F rfl (Or.inr rfl) (Nat.le_refl _) (Nat.le_refl _) rfl dX5_says_35
        rcases hw_v9 with ⟨hc_, hM_⟩ | ⟨hc_, hM_⟩ | ⟨hc_, hM_⟩
        · exact G_callAv F (As := [.inr a2]) (st := []) (x := ⟨"MissedTrains$Condition", "holds", "(LMissedTrains$Asked;)I"⟩) (owner := "MissedTrains$Condition") hM_ hc_ rfl (lw_U q943 q945 q978 q975 q122 q976) q944 hdA_holds ⟨by omega, by decide⟩ rfl (Nat.le_of_ble_eq_true rfl) ⟨by omega, by omega⟩ dX5_says_27 K_v9
        · exact G_callAv F (As := [.inr a2]) (st := []) (x := ⟨"MissedTrains$Condition", "holds", "(LMissedTrains$Asked;)I"⟩) (owner := "MissedTrains$Condition") hM_ hc_ rfl (lw_U q943 q945 q971 q972 q123 q973) q944 hdA_holds ⟨by omega, by decide⟩ rfl (Nat.le_of_ble_eq_true rfl) ⟨by omega, by omega⟩ dX5_says_27 K_v9
        · exact G_callAv F (As := [.inr a2]) (st := []) (x := ⟨"MissedTrains$Condition", "holds", "(LMissedTrains$Asked;)I"⟩) (owner := "MissedTrains$Condition") hM_ hc_ rfl (lw_U q943 q945 q946 q947 q124 q948) q944 hdA_holds ⟨by omega, by decide⟩ rfl (Nat.le_of_ble_eq_true rfl) ⟨by omega, by omega⟩ dX5_says_27 K_v9
  have hI := iter_ok (fun (s : (Int32 × Hp)) => match s with | (s3_1, m1) => G X cx 4 (Qm X cx (some (.inl rv)) m_ nx 0 0) (0) (0) m1 (nx) [some (.inr a0), some (.inl a1), some (.inr a2), some (.inl s3_1)] [] 2) (fun q => q = r1) KB1 _ _ _ hr1 rfl
  exact G_sub F (L2 := [some (.inr a0), some (.inl a1), some (.inr a2), some (.inl (0 : Int32))]) ⟨rfl, ⟨rfl, ⟨rfl, ⟨rfl, trivial⟩⟩⟩⟩ hI

theorem metX3_boards (X : Gx) {m : Hp} {nx : Nat} {a0 : Option Nat} {a1 : Int32} {a2 : Int32} {a3 : Int32} {a4 : Int32} {a5 : Int32} {m_ : Hp} (h : fX3_boards m a0 a1 a2 a3 a4 a5 = some m_) : Con X (187) yX3_boards cX3_boards 7 ((none : Option FieldType)) [.inr a0, .inl a1, .inl a2, .inl a3, .inl a4, .inl a5] m nx none m_ 0 0 := by
  refine Con.of (own := RX3) (nm := "boards") (L := [some (.inr a0), some (.inl a1), some (.inl a2), some (.inl a3), some (.inl a4), some (.inl a5), none]) (by decide +kernel) rfl rfl (Nat.le_of_ble_eq_true rfl) (ent_of 1 rfl) ?_
  intro cx F
  refine G_aload_n F dX3_boards_0 rfl ?_
  obtain ⟨v1, e_v1, h⟩ := bnd h
  refine G_getR F okX3 (f := 0) (by decide) q225 rfl dX3_boards_1 e_v1 ?_
  refine G_iload_n F dX3_boards_4 rfl ?_
  obtain ⟨v2, e_v2, h⟩ := bnd h
  refine G_aald F (t := 6) (by decide) dX3_boards_5 e_v2 ?_
  refine G_astore F (L2 := [some (.inr a0), some (.inl a1), some (.inl a2), some (.inl a3), some (.inl a4), some (.inl a5), some (.inr v2)]) dX3_boards_6 (by decide) rfl ?_
  refine G_aload_n F dX3_boards_8 rfl ?_
  obtain ⟨v3, e_v3, h⟩ := bnd h
  refine G_getR F okX3 (f := 8) (by decide) q239 rfl dX3_boards_9 e_v3 ?_
  obtain ⟨v4, e_v4, h⟩ := bnd h
  refine G_getRN F okX0 (f := 6) (by decide) q340 rfl dX3_boards_12 e_v4 ?_
  refine G_iload_n F dX3_boards_15 rfl ?_
  refine G_iload_n F dX3_boards_16 rfl ?_
  refine G_iload F dX3_boards_17 rfl ?_
  refine G_aload_n F dX3_boards_19 rfl ?_
  obtain ⟨v5, e_v5, h⟩ := bnd h
  refine G_getR F okX3 (f := 1) (by decide) q227 rfl dX3_boards_20 e_v5 ?_
  refine G_iload_n F dX3_boards_23 rfl ?_
  obtain ⟨v6, e_v6, h⟩ := bnd h
  refine G_iald F dX3_boards_24 e_v6 ?_
  refine G_aload_n F dX3_boards_25 rfl ?_
  refine G_iload_n F dX3_boards_26 rfl ?_
  obtain ⟨v7, e_v7, h⟩ := bnd h
  obtain ⟨hc_v7, e_v7⟩ := hp_on_of e_v7
  refine G_callVv F (As := [.inl a3]) (st := [.inl v6, .inl a4, .inl a3, .inl a2, .inr v4]) (metX3_waiting X e_v7) hc_v7 rfl rfl (lw_V q927 q929 qs24 q105 q930) hdfX3_waiting ⟨by omega, by decide⟩ rfl (Nat.le_of_ble_eq_true rfl) ⟨by omega, by omega⟩ dX3_boards_27 ?_
  refine G_aload_n F dX3_boards_30 rfl ?_
  obtain ⟨v8, e_v8, h⟩ := bnd h
  refine G_getI F okX3 (f := 3) (by decide) q229 rfl dX3_boards_31 e_v8 ?_
  refine G_iload F dX3_boards_34 rfl ?_
  obtain ⟨⟨v9, m10⟩, e_v9, h⟩ := bnd h
  obtain ⟨hc_v9, e_v9⟩ := hp_on_of e_v9
  refine G_callVv F (As := [.inl a2, .inl a3, .inl a4, .inl v6, .inl v7, .inl v8, .inl a5]) (st := []) (metX2_of X e_v9) hc_v9 rfl rfl (lw_V q931 q932 q933 q104 q934) hdfX2_of ⟨by omega, by decide⟩ rfl (Nat.le_of_ble_eq_true rfl) ⟨by omega, by omega⟩ dX3_boards_36 ?_
  refine G_iload_n F dX3_boards_39 rfl ?_
  refine G_aload F dX3_boards_40 rfl ?_
  obtain ⟨v11, e_v11, h⟩ := bnd h
  refine G_getIN F okX4 (f := 4) (by decide) q207 rfl dX3_boards_42 e_v11 ?_
  obtain ⟨⟨v12, m13⟩, e_v12, h⟩ := bnd h
  obtain ⟨hc_v12, e_v12⟩ := hp_on_of e_v12
  refine G_callVv F (As := [.inl a1, .inl v11]) (st := []) (metX2_with X e_v12) hc_v12 rfl rfl (lw_V q1004 q1005 q1006 q104 q1007) hdfX2_with ⟨by omega, by decide⟩ rfl (Nat.le_of_ble_eq_true rfl) ⟨by omega, by omega⟩ dX3_boards_45 ?_
  refine G_pop F dX3_boards_48 ?_
  refine G_aload_n F dX3_boards_49 rfl ?_
  obtain ⟨v14, e_v14, h⟩ := bnd h
  refine G_getR F okX3 (f := 8) (by decide) q239 rfl dX3_boards_50 e_v14 ?_
  obtain ⟨v15, e_v15, h⟩ := bnd h
  refine G_getRN F okX0 (f := 11) (by decide) q348 rfl dX3_boards_53 e_v15 ?_
  refine G_bipush F (v := (109 : Int32)) dX3_boards_56 (by decide) ?_
  refine G_aload_n F dX3_boards_58 rfl ?_
  obtain ⟨v16, e_v16, h⟩ := bnd h
  refine G_getR F okX3 (f := 8) (by decide) q239 rfl dX3_boards_59 e_v16 ?_
  obtain ⟨v17, e_v17, h⟩ := bnd h
  refine G_getRN F okX0 (f := 6) (by decide) q340 rfl dX3_boards_62 e_v17 ?_
  obtain ⟨⟨v18, m19⟩, e_v18, h⟩ := bnd h
  obtain ⟨hc_v18, e_v18⟩ := hp_on_of e_v18
  refine G_callVv F (As := [.inl (109 : Int32), .inr v17]) (st := []) (metX5_says X e_v18) hc_v18 rfl rfl (lw_V q1008 q1009 q1010 q107 q1011) hdfX5_says ⟨by omega, by decide⟩ rfl (Nat.le_of_ble_eq_true rfl) ⟨by omega, by omega⟩ dX3_boards_65 ?_
  refine G_if_eq F (tgt := 102) dX3_boards_68 (by decide) (fun c20 => ?_) (fun c20 => ?_)
  · have h := itt c20 h
    refine G_aload_n F dX3_boards_102 rfl ?_
    obtain ⟨v21, e_v21, h⟩ := bnd h
    refine G_getR F okX3 (f := 2) (by decide) q228 rfl dX3_boards_103 e_v21 ?_
    refine G_iload_n F dX3_boards_106 rfl ?_
    refine G_iload_n F dX3_boards_107 rfl ?_
    obtain ⟨m22, e_m22, h⟩ := bnd h
    refine G_iast F dX3_boards_108 e_m22 ?_
    cases h
    exact G_vret F rfl (Nat.le_refl _) (Nat.le_refl _) rfl dX3_boards_109
  · have h := itf c20 h
    refine G_aload F dX3_boards_71 rfl ?_
    refine G_sipush F (v := (9999 : Int32)) dX3_boards_73 (by decide) ?_
    refine G_aload F dX3_boards_76 rfl ?_
    obtain ⟨v23, e_v23, h⟩ := bnd h
    refine G_getIN F okX4 (f := 4) (by decide) q207 rfl dX3_boards_78 e_v23 ?_
    refine G_iconst F (v := (1 : Int32)) dX3_boards_81 (by decide) ?_
    refine G_iadd F dX3_boards_82 ?_
    refine G_mmin F q998 q517 q113 q518 (by omega) (Nat.le_of_ble_eq_true rfl) ⟨by omega, by omega⟩ dX3_boards_83 ?_
    obtain ⟨m24, e_m24, h⟩ := bnd h
    refine G_putVN F okX4 (f := 4) (by decide) q207 rfl rfl dX3_boards_86 (vfit_int _) e_m24 ?_
    refine G_aload_n F dX3_boards_89 rfl ?_
    refine G_dup F dX3_boards_90 ?_
    obtain ⟨v25, e_v25, h⟩ := bnd h
    refine G_getI F okX3 (f := 6) (by decide) q235 rfl dX3_boards_91 e_v25 ?_
    refine G_iconst F (v := (1 : Int32)) dX3_boards_94 (by decide) ?_
    refine G_iadd F dX3_boards_95 ?_
    obtain ⟨m26, e_m26, h⟩ := bnd h
    refine G_putV F okX3 (f := 6) (by decide) q235 rfl rfl dX3_boards_96 (vfit_int _) e_m26 ?_
    refine G_goto F (tgt := 109) dX3_boards_99 (by decide) ?_
    cases h
    exact G_vret F rfl (Nat.le_refl _) (Nat.le_refl _) rfl dX3_boards_109
