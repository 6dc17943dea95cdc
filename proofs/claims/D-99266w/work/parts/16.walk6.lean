set_option maxRecDepth 100000
set_option linter.unusedVariables false
theorem metX7_types (X : Gx) {m : Hp} {nx : Nat} {a0 : Option Nat} {a1 : Int32} {m_ : Hp} (h : fX7_types m a0 a1 = some m_) : Con X (1) yX7_types cX7_types 3 ((none : Option FieldType)) [.inr a0, .inl a1] m nx none m_ 0 0 := by
  refine Con.of (own := RX7) (nm := "types") (L := [some (.inr a0), some (.inl a1), none]) (by decide +kernel) rfl rfl (Nat.le_of_ble_eq_true rfl) (ent_of 1 rfl) ?_
  intro cx F
  refine G_iconst F (v := (3 : Int32)) dX7_types_0 (by decide) ?_
  refine G_istore_n F (L2 := [some (.inr a0), some (.inl a1), some (.inl (3 : Int32))]) dX7_types_1 (by decide) rfl ?_
  obtain ⟨r1, hr1, h⟩ := bnd h
  have KE1 : ∀ (m8 : Hp), m8 = r1 → G X cx 3 (Qm X cx none m_ nx 0 0) (0) (0) m8 (nx) [none, none, none] [] 38 := by
    intro m8 hq
    subst hq
    try dsimp only at h
    cases h
    exact G_vret F rfl (Nat.le_refl _) (Nat.le_refl _) rfl dX7_types_38
  have KB1 : ∀ s o1, fX7_types_L2 a0 a1 s = some o1 → (∀ s', o1 = Sum.inl s' → (fun (s : (Int32 × Hp)) => match s with | (s2_1, m1) => G X cx 3 (Qm X cx none m_ nx 0 0) (0) (0) m1 (nx) [some (.inr a0), some (.inl a1), some (.inl s2_1)] [] 2) s') → (∀ q, o1 = Sum.inr q → q = r1) → (fun (s : (Int32 × Hp)) => match s with | (s2_1, m1) => G X cx 3 (Qm X cx none m_ nx 0 0) (0) (0) m1 (nx) [some (.inr a0), some (.inl a1), some (.inl s2_1)] [] 2) s := by
    intro s o1 h hP1 hE1
    obtain ⟨s2_1, m1⟩ := s
    try dsimp only at hP1 hE1 ⊢
    refine G_iload_n F dX7_types_2 rfl ?_
    refine G_if_lt F (tgt := 38) dX7_types_3 (by decide) (fun c2 => ?_) (fun c2 => ?_)
    · have h := itt c2 h
      cases h
      exact G_sub F (L2 := [none, none, none]) trivial (KE1 _ (hE1 _ rfl))
    · have h := itf c2 h
      refine G_aload_n F dX7_types_6 rfl ?_
      obtain ⟨v3, e_v3, h⟩ := bnd h
      refine G_getR F okX7 (f := 16) (by decide) q1240 rfl dX7_types_7 e_v3 ?_
      refine G_aload_n F dX7_types_10 rfl ?_
      obtain ⟨v4, e_v4, h⟩ := bnd h
      refine G_getI F okX7 (f := 17) (by decide) q1241 rfl dX7_types_11 e_v4 ?_
      refine G_iload_n F dX7_types_14 rfl ?_
      refine G_bipush F (v := (8 : Int32)) dX7_types_15 (by decide) ?_
      refine G_iload_n F dX7_types_17 rfl ?_
      refine G_imul F dX7_types_18 ?_
      refine G_ishr F dX7_types_19 ?_
      refine G_i2b F dX7_types_20 ?_
      obtain ⟨m5, e_m5, h⟩ := bnd h
      refine G_bast F dX7_types_21 e_m5 ?_
      refine G_aload_n F dX7_types_22 rfl ?_
      refine G_aload_n F dX7_types_23 rfl ?_
      obtain ⟨v6, e_v6, h⟩ := bnd h
      refine G_getI F okX7 (f := 17) (by decide) q1241 rfl dX7_types_24 e_v6 ?_
      refine G_iconst F (v := (1 : Int32)) dX7_types_27 (by decide) ?_
      refine G_iadd F dX7_types_28 ?_
      obtain ⟨m7, e_m7, h⟩ := bnd h
      refine G_putV F okX7 (f := 17) (by decide) q1241 rfl rfl dX7_types_29 (vfit_int _) e_m7 ?_
      refine G_iinc F (v := (s2_1 + (-1 : Int32))) (L2 := [some (.inr a0), some (.inl a1), some (.inl (s2_1 + (-1 : Int32)))]) dX7_types_32 (by decide) rfl rfl rfl ?_
      refine G_goto F (tgt := 2) dX7_types_35 (by decide) ?_
      cases h
      exact G_sub F (L2 := [some (.inr a0), some (.inl a1), some (.inl (s2_1 + (-1 : Int32)))]) ⟨rfl, ⟨rfl, ⟨rfl, trivial⟩⟩⟩ (hP1 _ rfl)
  have hI := iter_ok (fun (s : (Int32 × Hp)) => match s with | (s2_1, m1) => G X cx 3 (Qm X cx none m_ nx 0 0) (0) (0) m1 (nx) [some (.inr a0), some (.inl a1), some (.inl s2_1)] [] 2) (fun q => q = r1) KB1 _ _ _ hr1 rfl
  exact G_sub F (L2 := [some (.inr a0), some (.inl a1), some (.inl (3 : Int32))]) ⟨rfl, ⟨rfl, ⟨rfl, trivial⟩⟩⟩ hI

theorem metX7_feed (X : Gx) {m : Hp} {nx : Nat} {a0 : Option Nat} {a1 : Int32} {a2 : Int32} {a3 : Int32} {a4 : Int32} {a5 : Int32} {rv : Int32} {m_ : Hp} (h : fX7_feed m a0 a1 a2 a3 a4 a5 = some (rv, m_)) : Con X (2) yX7_feed cX7_feed 6 ((Option.some FieldType.int)) [.inr a0, .inl a1, .inl a2, .inl a3, .inl a4, .inl a5] m nx (some (.inl rv)) m_ 0 0 := by
  refine Con.of (own := RX7) (nm := "feed") (L := [some (.inr a0), some (.inl a1), some (.inl a2), some (.inl a3), some (.inl a4), some (.inl a5)]) (by decide +kernel) rfl rfl (Nat.le_of_ble_eq_true rfl) (ent_of 0 rfl) ?_
  intro cx F
  refine G_aload_n F dX7_feed_0 rfl ?_
  obtain ⟨v1, e_v1, h⟩ := bnd h
  refine G_getI F okX7 (f := 17) (by decide) q1241 rfl dX7_feed_1 e_v1 ?_
  refine G_bipush F (v := (20 : Int32)) dX7_feed_4 (by decide) ?_
  refine G_iadd F dX7_feed_6 ?_
  refine G_sipush F (v := (260 : Int32)) dX7_feed_7 (by decide) ?_
  refine G_icmp_le F (tgt := 15) dX7_feed_10 (by decide) (fun c2 => ?_) (fun c2 => ?_)
  · have h := itt c2 h
    refine G_aload_n F dX7_feed_15 rfl ?_
    refine G_iload_n F dX7_feed_16 rfl ?_
    obtain ⟨m3, e_m3, h⟩ := bnd h
    obtain ⟨hc_m3, e_m3⟩ := hp_on_of e_m3
    refine G_callV0 F (As := [.inl a1]) (st := []) (metX7_types X e_m3) hc_m3 rfl rfl (lw_V q1444 q1446 qs43 q109 q1447) hdfX7_types ⟨by omega, by decide⟩ rfl (Nat.le_of_ble_eq_true rfl) ⟨by omega, by omega⟩ dX7_feed_17 ?_
    refine G_aload_n F dX7_feed_20 rfl ?_
    refine G_iload_n F dX7_feed_21 rfl ?_
    obtain ⟨m4, e_m4, h⟩ := bnd h
    obtain ⟨hc_m4, e_m4⟩ := hp_on_of e_m4
    refine G_callV0 F (As := [.inl a2]) (st := []) (metX7_types X e_m4) hc_m4 rfl rfl (lw_V q1444 q1446 qs43 q109 q1447) hdfX7_types ⟨by omega, by decide⟩ rfl (Nat.le_of_ble_eq_true rfl) ⟨by omega, by omega⟩ dX7_feed_22 ?_
    refine G_aload_n F dX7_feed_25 rfl ?_
    refine G_iload_n F dX7_feed_26 rfl ?_
    obtain ⟨m5, e_m5, h⟩ := bnd h
    obtain ⟨hc_m5, e_m5⟩ := hp_on_of e_m5
    refine G_callV0 F (As := [.inl a3]) (st := []) (metX7_types X e_m5) hc_m5 rfl rfl (lw_V q1444 q1446 qs43 q109 q1447) hdfX7_types ⟨by omega, by decide⟩ rfl (Nat.le_of_ble_eq_true rfl) ⟨by omega, by omega⟩ dX7_feed_27 ?_
    refine G_aload_n F dX7_feed_30 rfl ?_
    refine G_iload F dX7_feed_31 rfl ?_
    obtain ⟨m6, e_m6, h⟩ := bnd h
    obtain ⟨hc_m6, e_m6⟩ := hp_on_of e_m6
    refine G_callV0 F (As := [.inl a4]) (st := []) (metX7_types X e_m6) hc_m6 rfl rfl (lw_V q1444 q1446 qs43 q109 q1447) hdfX7_types ⟨by omega, by decide⟩ rfl (Nat.le_of_ble_eq_true rfl) ⟨by omega, by omega⟩ dX7_feed_33 ?_
    refine G_aload_n F dX7_feed_36 rfl ?_
    refine G_iload F dX7_feed_37 rfl ?_
    obtain ⟨m7, e_m7, h⟩ := bnd h
    obtain ⟨hc_m7, e_m7⟩ := hp_on_of e_m7
    refine G_callV0 F (As := [.inl a5]) (st := []) (metX7_types X e_m7) hc_m7 rfl rfl (lw_V q1444 q1446 qs43 q109 q1447) hdfX7_types ⟨by omega, by decide⟩ rfl (Nat.le_of_ble_eq_true rfl) ⟨by omega, by omega⟩ dX7_feed_39 ?_
    refine G_aload_n F dX7_feed_42 rfl ?_
    obtain ⟨v8, e_v8, h⟩ := bnd h
    refine G_getI F okX7 (f := 17) (by decide) q1241 rfl dX7_feed_43 e_v8 ?_
    cases h
    exact G_iret F rfl (Nat.le_refl _) (Nat.le_refl _) rfl dX7_feed_46
  · have h := itf c2 h
    refine G_iconst F (v := (-1 : Int32)) dX7_feed_13 (by decide) ?_
    cases h
    exact G_iret F rfl (Nat.le_refl _) (Nat.le_refl _) rfl dX7_feed_14

theorem metX7_octet (X : Gx) {m : Hp} {nx : Nat} {a0 : Option Nat} {a1 : Int32} {rv : Int32} (h : fX7_octet m a0 a1 = some rv) : Con X (1) yX7_octet cX7_octet 2 ((Option.some FieldType.int)) [.inr a0, .inl a1] m nx (some (.inl rv)) m 0 0 := by
  refine Con.of (own := RX7) (nm := "octet") (L := [some (.inr a0), some (.inl a1)]) (by decide +kernel) rfl rfl (Nat.le_of_ble_eq_true rfl) (ent_of 0 rfl) ?_
  intro cx F
  refine G_aload_n F dX7_octet_0 rfl ?_
  obtain ⟨v1, e_v1, h⟩ := bnd h
  refine G_getR F okX7 (f := 16) (by decide) q1240 rfl dX7_octet_1 e_v1 ?_
  refine G_iload_n F dX7_octet_4 rfl ?_
  obtain ⟨v2, e_v2, h⟩ := bnd h
  refine G_bald F dX7_octet_5 e_v2 ?_
  refine G_sipush F (v := (255 : Int32)) dX7_octet_6 (by decide) ?_
  refine G_iand F dX7_octet_9 ?_
  cases h
  exact G_iret F rfl (Nat.le_refl _) (Nat.le_refl _) rfl dX7_octet_10

theorem metX7_here (X : Gx) {m : Hp} {nx : Nat} {a0 : Option Nat} {rv : Int32} (h : fX7_here m a0 = some rv) : Con X (1) yX7_here cX7_here 1 ((Option.some FieldType.int)) [.inr a0] m nx (some (.inl rv)) m 0 0 := by
  refine Con.of (own := RX7) (nm := "here") (L := [some (.inr a0)]) (by decide +kernel) rfl rfl (Nat.le_of_ble_eq_true rfl) (ent_of 0 rfl) ?_
  intro cx F
  refine G_aload_n F dX7_here_0 rfl ?_
  obtain ⟨v1, e_v1, h⟩ := bnd h
  refine G_getI F okX7 (f := 18) (by decide) q1242 rfl dX7_here_1 e_v1 ?_
  refine G_aload_n F dX7_here_4 rfl ?_
  obtain ⟨v2, e_v2, h⟩ := bnd h
  refine G_getI F okX7 (f := 19) (by decide) q1243 rfl dX7_here_5 e_v2 ?_
  refine G_icmp_ge F (tgt := 27) dX7_here_8 (by decide) (fun c3 => ?_) (fun c3 => ?_)
  · have h := itt c3 h
    refine G_iconst F (v := (-1 : Int32)) dX7_here_27 (by decide) ?_
    cases h
    exact G_iret F rfl (Nat.le_refl _) (Nat.le_refl _) rfl dX7_here_28
  · have h := itf c3 h
    refine G_aload_n F dX7_here_11 rfl ?_
    obtain ⟨v4, e_v4, h⟩ := bnd h
    refine G_getR F okX7 (f := 16) (by decide) q1240 rfl dX7_here_12 e_v4 ?_
    refine G_aload_n F dX7_here_15 rfl ?_
    obtain ⟨v5, e_v5, h⟩ := bnd h
    refine G_getI F okX7 (f := 18) (by decide) q1242 rfl dX7_here_16 e_v5 ?_
    obtain ⟨v6, e_v6, h⟩ := bnd h
    refine G_bald F dX7_here_19 e_v6 ?_
    refine G_sipush F (v := (255 : Int32)) dX7_here_20 (by decide) ?_
    refine G_iand F dX7_here_23 ?_
    refine G_goto F (tgt := 28) dX7_here_24 (by decide) ?_
    cases h
    exact G_iret F rfl (Nat.le_refl _) (Nat.le_refl _) rfl dX7_here_28

theorem metX7_isDigit (X : Gx) {m : Hp} {nx : Nat} {a0 : Option Nat} {rv : Int32} (h : fX7_isDigit m a0 = some rv) : Con X (2) yX7_isDigit cX7_isDigit 1 ((Option.some FieldType.boolean)) [.inr a0] m nx (some (.inl rv)) m 0 0 := by
  refine Con.of (own := RX7) (nm := "isDigit") (L := [some (.inr a0)]) (by decide +kernel) rfl rfl (Nat.le_of_ble_eq_true rfl) (ent_of 0 rfl) ?_
  intro cx F
  refine G_aload_n F dX7_isDigit_0 rfl ?_
  obtain ⟨v1, e_v1, h⟩ := bnd h
  obtain ⟨hc_v1, e_v1⟩ := hp_on_of e_v1
  refine G_callVv F (As := []) (st := []) (metX7_here X e_v1) hc_v1 rfl rfl (lw_V q1460 q1462 qs46 q109 q1463) hdfX7_here ⟨by omega, by decide⟩ rfl (Nat.le_of_ble_eq_true rfl) ⟨by omega, by omega⟩ dX7_isDigit_1 ?_
  refine G_bipush F (v := (48 : Int32)) dX7_isDigit_4 (by decide) ?_
  refine G_icmp_lt F (tgt := 22) dX7_isDigit_6 (by decide) (fun c2 => ?_) (fun c2 => ?_)
  · have h := itt c2 h
    refine G_iconst F (v := (0 : Int32)) dX7_isDigit_22 (by decide) ?_
    cases h
    exact G_zret F rfl (Or.inl rfl) (Nat.le_refl _) (Nat.le_refl _) rfl dX7_isDigit_23
  · have h := itf c2 h
    refine G_aload_n F dX7_isDigit_9 rfl ?_
    obtain ⟨v3, e_v3, h⟩ := bnd h
    obtain ⟨hc_v3, e_v3⟩ := hp_on_of e_v3
    refine G_callVv F (As := []) (st := []) (metX7_here X e_v3) hc_v3 rfl rfl (lw_V q1460 q1462 qs46 q109 q1463) hdfX7_here ⟨by omega, by decide⟩ rfl (Nat.le_of_ble_eq_true rfl) ⟨by omega, by omega⟩ dX7_isDigit_10 ?_
    refine G_bipush F (v := (57 : Int32)) dX7_isDigit_13 (by decide) ?_
    refine G_icmp_gt F (tgt := 22) dX7_isDigit_15 (by decide) (fun c4 => ?_) (fun c4 => ?_)
    · have h := itt c4 h
      refine G_iconst F (v := (0 : Int32)) dX7_isDigit_22 (by decide) ?_
      cases h
      exact G_zret F rfl (Or.inl rfl) (Nat.le_refl _) (Nat.le_refl _) rfl dX7_isDigit_23
    · have h := itf c4 h
      refine G_iconst F (v := (1 : Int32)) dX7_isDigit_18 (by decide) ?_
      refine G_goto F (tgt := 23) dX7_isDigit_19 (by decide) ?_
      cases h
      exact G_zret F rfl (Or.inr rfl) (Nat.le_refl _) (Nat.le_refl _) rfl dX7_isDigit_23

theorem metX7_wrongAt (X : Gx) {m : Hp} {nx : Nat} {a0 : Option Nat} {a1 : Int32} {a2 : Int32} {rv : Int32} {m_ : Hp} (h : fX7_wrongAt m a0 a1 a2 = some (rv, m_)) : Con X (1) yX7_wrongAt cX7_wrongAt 3 ((Option.some FieldType.boolean)) [.inr a0, .inl a1, .inl a2] m nx (some (.inl rv)) m_ 0 0 := by
  refine Con.of (own := RX7) (nm := "wrongAt") (L := [some (.inr a0), some (.inl a1), some (.inl a2)]) (by decide +kernel) rfl rfl (Nat.le_of_ble_eq_true rfl) (ent_of 0 rfl) ?_
  intro cx F
  refine G_aload_n F dX7_wrongAt_0 rfl ?_
  refine G_sipush F (v := (-1000 : Int32)) dX7_wrongAt_1 (by decide) ?_
  refine G_iload_n F dX7_wrongAt_4 rfl ?_
  refine G_imul F dX7_wrongAt_5 ?_
  refine G_iload_n F dX7_wrongAt_6 rfl ?_
  refine G_isub F dX7_wrongAt_7 ?_
  obtain ⟨m1, e_m1, h⟩ := bnd h
  refine G_putV F okX7 (f := 20) (by decide) q1244 rfl rfl dX7_wrongAt_8 (vfit_int _) e_m1 ?_
  refine G_iconst F (v := (0 : Int32)) dX7_wrongAt_11 (by decide) ?_
  cases h
  exact G_zret F rfl (Or.inl rfl) (Nat.le_refl _) (Nat.le_refl _) rfl dX7_wrongAt_12

theorem metX7_takes (X : Gx) {m : Hp} {nx : Nat} {a0 : Option Nat} {a1 : Int32} {rv : Int32} {m_ : Hp} (h : fX7_takes m a0 a1 = some (rv, m_)) : Con X (2) yX7_takes cX7_takes 2 ((Option.some FieldType.boolean)) [.inr a0, .inl a1] m nx (some (.inl rv)) m_ 0 0 := by
  refine Con.of (own := RX7) (nm := "takes") (L := [some (.inr a0), some (.inl a1)]) (by decide +kernel) rfl rfl (Nat.le_of_ble_eq_true rfl) (ent_of 0 rfl) ?_
  intro cx F
  refine G_aload_n F dX7_takes_0 rfl ?_
  obtain ⟨v1, e_v1, h⟩ := bnd h
  obtain ⟨hc_v1, e_v1⟩ := hp_on_of e_v1
  refine G_callVv F (As := []) (st := []) (metX7_here X e_v1) hc_v1 rfl rfl (lw_V q1460 q1462 qs46 q109 q1463) hdfX7_here ⟨by omega, by decide⟩ rfl (Nat.le_of_ble_eq_true rfl) ⟨by omega, by omega⟩ dX7_takes_1 ?_
  refine G_iload_n F dX7_takes_4 rfl ?_
  refine G_icmp_eq F (tgt := 18) dX7_takes_5 (by decide) (fun c2 => ?_) (fun c2 => ?_)
  · have h := itt c2 h
    refine G_aload_n F dX7_takes_18 rfl ?_
    refine G_aload_n F dX7_takes_19 rfl ?_
    obtain ⟨v3, e_v3, h⟩ := bnd h
    refine G_getI F okX7 (f := 18) (by decide) q1242 rfl dX7_takes_20 e_v3 ?_
    refine G_iconst F (v := (1 : Int32)) dX7_takes_23 (by decide) ?_
    refine G_iadd F dX7_takes_24 ?_
    obtain ⟨m4, e_m4, h⟩ := bnd h
    refine G_putV F okX7 (f := 18) (by decide) q1242 rfl rfl dX7_takes_25 (vfit_int _) e_m4 ?_
    refine G_iconst F (v := (1 : Int32)) dX7_takes_28 (by decide) ?_
    cases h
    exact G_zret F rfl (Or.inr rfl) (Nat.le_refl _) (Nat.le_refl _) rfl dX7_takes_29
  · have h := itf c2 h
    refine G_aload_n F dX7_takes_8 rfl ?_
    refine G_iconst F (v := (1 : Int32)) dX7_takes_9 (by decide) ?_
    refine G_aload_n F dX7_takes_10 rfl ?_
    obtain ⟨v5, e_v5, h⟩ := bnd h
    refine G_getI F okX7 (f := 18) (by decide) q1242 rfl dX7_takes_11 e_v5 ?_
    obtain ⟨⟨v6, m7⟩, e_v6, h⟩ := bnd h
    obtain ⟨hc_v6, e_v6⟩ := hp_on_of e_v6
    refine G_callVv F (As := [.inl (1 : Int32), .inl v5]) (st := []) (metX7_wrongAt X e_v6) hc_v6 rfl rfl (lw_V q1464 q1466 qs47 q109 q1467) hdfX7_wrongAt ⟨by omega, by decide⟩ rfl (Nat.le_of_ble_eq_true rfl) ⟨by omega, by omega⟩ dX7_takes_14 ?_
    obtain ⟨z8, e_z8, h⟩ := bnd h
    have hz_ := hp_z_of e_z8
    cases h
    exact G_zretz F rfl hz_ (Nat.le_refl _) (Nat.le_refl _) rfl dX7_takes_17

theorem metX7_readsNumber (X : Gx) {m : Hp} {nx : Nat} {a0 : Option Nat} {rv : Int32} {m_ : Hp} (h : fX7_readsNumber m a0 = some (rv, m_)) : Con X (3) yX7_readsNumber cX7_readsNumber 2 ((Option.some FieldType.boolean)) [.inr a0] m nx (some (.inl rv)) m_ 0 0 := by
  refine Con.of (own := RX7) (nm := "readsNumber") (L := [some (.inr a0), none]) (by decide +kernel) rfl rfl (Nat.le_of_ble_eq_true rfl) (ent_of 1 rfl) ?_
  intro cx F
  refine G_aload_n F dX7_readsNumber_0 rfl ?_
  obtain ⟨v1, e_v1, h⟩ := bnd h
  refine G_getI F okX7 (f := 18) (by decide) q1242 rfl dX7_readsNumber_1 e_v1 ?_
  refine G_istore_n F (L2 := [some (.inr a0), some (.inl v1)]) dX7_readsNumber_4 (by decide) rfl ?_
  refine G_aload_n F dX7_readsNumber_5 rfl ?_
  refine G_iconst F (v := (0 : Int32)) dX7_readsNumber_6 (by decide) ?_
  obtain ⟨m2, e_m2, h⟩ := bnd h
  refine G_putV F okX7 (f := 21) (by decide) q1245 rfl rfl dX7_readsNumber_7 (vfit_int _) e_m2 ?_
  obtain ⟨r3, hr3, h⟩ := bnd h
  have KE3 : ∀ (m17 : Hp), Sum.inl m17 = r3 → G X cx 2 (Qm X cx (some (.inl rv)) m_ nx 0 0) (0) (0) m17 (nx) [none, none] [] 69 := by
    intro m17 hq
    subst hq
    try dsimp only at h
    refine G_iconst F (v := (1 : Int32)) dX7_readsNumber_69 (by decide) ?_
    cases h
    exact G_zret F rfl (Or.inr rfl) (Nat.le_refl _) (Nat.le_refl _) rfl dX7_readsNumber_70
  have KR3 : ∀ q, Sum.inr q = r3 → some q = some (rv, m_) := by
    intro q hq
    subst hq
    exact h
  have KB3 : ∀ s o3, fX7_readsNumber_L10 a0 v1 s = some o3 → (∀ s', o3 = Sum.inl s' → (fun (s : Hp) => match s with | m3 => G X cx 2 (Qm X cx (some (.inl rv)) m_ nx 0 0) (0) (0) m3 (nx) [some (.inr a0), some (.inl v1)] [] 10) s') → (∀ q, o3 = Sum.inr q → q = r3) → (fun (s : Hp) => match s with | m3 => G X cx 2 (Qm X cx (some (.inl rv)) m_ nx 0 0) (0) (0) m3 (nx) [some (.inr a0), some (.inl v1)] [] 10) s := by
    intro s o3 h hP3 hE3
    obtain ⟨m3, hs_⟩ : ∃ x, x = s := ⟨_, rfl⟩
    subst hs_
    try dsimp only at hP3 hE3 ⊢
    refine G_aload_n F dX7_readsNumber_10 rfl ?_
    obtain ⟨v4, e_v4, h⟩ := bnd h
    obtain ⟨hc_v4, e_v4⟩ := hp_on_of e_v4
    refine G_callVv F (As := []) (st := []) (metX7_isDigit X e_v4) hc_v4 rfl rfl (lw_V q1481 q1483 qs51 q109 q1484) hdfX7_isDigit ⟨by omega, by decide⟩ rfl (Nat.le_of_ble_eq_true rfl) ⟨by omega, by omega⟩ dX7_readsNumber_11 ?_
    refine G_if_eq F (tgt := 69) dX7_readsNumber_14 (by decide) (fun c5 => ?_) (fun c5 => ?_)
    · have h := itt c5 h
      cases h
      exact G_sub F (L2 := [none, none]) trivial (KE3 _ (hE3 _ rfl))
    · have h := itf c5 h
      refine G_aload_n F dX7_readsNumber_17 rfl ?_
      obtain ⟨v6, e_v6, h⟩ := bnd h
      refine G_getI F okX7 (f := 18) (by decide) q1242 rfl dX7_readsNumber_18 e_v6 ?_
      refine G_iload_n F dX7_readsNumber_21 rfl ?_
      refine G_iconst F (v := (5 : Int32)) dX7_readsNumber_22 (by decide) ?_
      refine G_iadd F dX7_readsNumber_23 ?_
      refine G_icmp_ne F (tgt := 37) dX7_readsNumber_24 (by decide) (fun c7 => ?_) (fun c7 => ?_)
      · have h := itf c7 h
        refine G_aload_n F dX7_readsNumber_37 rfl ?_
        refine G_bipush F (v := (10 : Int32)) dX7_readsNumber_38 (by decide) ?_
        refine G_aload_n F dX7_readsNumber_40 rfl ?_
        obtain ⟨v8, e_v8, h⟩ := bnd h
        refine G_getI F okX7 (f := 21) (by decide) q1245 rfl dX7_readsNumber_41 e_v8 ?_
        refine G_imul F dX7_readsNumber_44 ?_
        refine G_aload_n F dX7_readsNumber_45 rfl ?_
        obtain ⟨v9, e_v9, h⟩ := bnd h
        obtain ⟨hc_v9, e_v9⟩ := hp_on_of e_v9
        refine G_callVv F (As := []) (st := [.inl ((10 : Int32) * v8), .inr a0]) (metX7_here X e_v9) hc_v9 rfl rfl (lw_V q1460 q1462 qs46 q109 q1463) hdfX7_here ⟨by omega, by decide⟩ rfl (Nat.le_of_ble_eq_true rfl) ⟨by omega, by omega⟩ dX7_readsNumber_46 ?_
        refine G_iadd F dX7_readsNumber_49 ?_
        refine G_bipush F (v := (48 : Int32)) dX7_readsNumber_50 (by decide) ?_
        refine G_isub F dX7_readsNumber_52 ?_
        obtain ⟨m10, e_m10, h⟩ := bnd h
        refine G_putV F okX7 (f := 21) (by decide) q1245 rfl rfl dX7_readsNumber_53 (vfit_int _) e_m10 ?_
        refine G_aload_n F dX7_readsNumber_56 rfl ?_
        refine G_aload_n F dX7_readsNumber_57 rfl ?_
        obtain ⟨v11, e_v11, h⟩ := bnd h
        refine G_getI F okX7 (f := 18) (by decide) q1242 rfl dX7_readsNumber_58 e_v11 ?_
        refine G_iconst F (v := (1 : Int32)) dX7_readsNumber_61 (by decide) ?_
        refine G_iadd F dX7_readsNumber_62 ?_
        obtain ⟨m12, e_m12, h⟩ := bnd h
        refine G_putV F okX7 (f := 18) (by decide) q1242 rfl rfl dX7_readsNumber_63 (vfit_int _) e_m12 ?_
        refine G_goto F (tgt := 10) dX7_readsNumber_66 (by decide) ?_
        cases h
        exact G_sub F (L2 := [some (.inr a0), some (.inl v1)]) ⟨rfl, ⟨rfl, trivial⟩⟩ (hP3 _ rfl)
      · have h := itt c7 h
        refine G_aload_n F dX7_readsNumber_27 rfl ?_
        refine G_iconst F (v := (2 : Int32)) dX7_readsNumber_28 (by decide) ?_
        refine G_aload_n F dX7_readsNumber_29 rfl ?_
        obtain ⟨v13, e_v13, h⟩ := bnd h
        refine G_getI F okX7 (f := 18) (by decide) q1242 rfl dX7_readsNumber_30 e_v13 ?_
        obtain ⟨⟨v14, m15⟩, e_v14, h⟩ := bnd h
        obtain ⟨hc_v14, e_v14⟩ := hp_on_of e_v14
        refine G_callVv F (As := [.inl (2 : Int32), .inl v13]) (st := []) (metX7_wrongAt X e_v14) hc_v14 rfl rfl (lw_V q1464 q1466 qs47 q109 q1467) hdfX7_wrongAt ⟨by omega, by decide⟩ rfl (Nat.le_of_ble_eq_true rfl) ⟨by omega, by omega⟩ dX7_readsNumber_33 ?_
        obtain ⟨z16, e_z16, h⟩ := bnd h
        have hz_ := hp_z_of e_z16
        cases h
        have h := KR3 _ (hE3 _ rfl)
        cases h
        exact G_zretz F rfl hz_ (Nat.le_refl _) (Nat.le_refl _) rfl dX7_readsNumber_36
  have hI := iter_ok (fun (s : Hp) => match s with | m3 => G X cx 2 (Qm X cx (some (.inl rv)) m_ nx 0 0) (0) (0) m3 (nx) [some (.inr a0), some (.inl v1)] [] 10) (fun q => q = r3) KB3 _ _ _ hr3 rfl
  exact G_sub F (L2 := [some (.inr a0), some (.inl v1)]) ⟨rfl, ⟨rfl, trivial⟩⟩ hI

theorem metX7_notes (X : Gx) {m : Hp} {nx : Nat} {a0 : Option Nat} {a1 : Int32} {a2 : Int32} {m_ : Hp} (h : fX7_notes m a0 a1 a2 = some m_) : Con X (1) yX7_notes cX7_notes 3 ((none : Option FieldType)) [.inr a0, .inl a1, .inl a2] m nx none m_ 0 0 := by
  refine Con.of (own := RX7) (nm := "notes") (L := [some (.inr a0), some (.inl a1), some (.inl a2)]) (by decide +kernel) rfl rfl (Nat.le_of_ble_eq_true rfl) (ent_of 0 rfl) ?_
  intro cx F
  refine G_aload_n F dX7_notes_0 rfl ?_
  obtain ⟨v1, e_v1, h⟩ := bnd h
  refine G_getR F okX7 (f := 27) (by decide) q1251 rfl dX7_notes_1 e_v1 ?_
  refine G_aload_n F dX7_notes_4 rfl ?_
  obtain ⟨v2, e_v2, h⟩ := bnd h
  refine G_getI F okX7 (f := 23) (by decide) q1247 rfl dX7_notes_5 e_v2 ?_
  refine G_ldc F q1480 dX7_notes_8 ?_
  refine G_iload_n F dX7_notes_10 rfl ?_
  refine G_imul F dX7_notes_11 ?_
  refine G_iload_n F dX7_notes_12 rfl ?_
  refine G_iadd F dX7_notes_13 ?_
  obtain ⟨m3, e_m3, h⟩ := bnd h
  refine G_iast F dX7_notes_14 e_m3 ?_
  refine G_aload_n F dX7_notes_15 rfl ?_
  refine G_aload_n F dX7_notes_16 rfl ?_
  obtain ⟨v4, e_v4, h⟩ := bnd h
  refine G_getI F okX7 (f := 23) (by decide) q1247 rfl dX7_notes_17 e_v4 ?_
  refine G_iconst F (v := (1 : Int32)) dX7_notes_20 (by decide) ?_
  refine G_iadd F dX7_notes_21 ?_
  obtain ⟨m5, e_m5, h⟩ := bnd h
  refine G_putV F okX7 (f := 23) (by decide) q1247 rfl rfl dX7_notes_22 (vfit_int _) e_m5 ?_
  cases h
  exact G_vret F rfl (Nat.le_refl _) (Nat.le_refl _) rfl dX7_notes_25

theorem metX7_opens (X : Gx) {m : Hp} {nx : Nat} {a0 : Option Nat} {a1 : Int32} {rv : Int32} {m_ : Hp} (h : fX7_opens m a0 a1 = some (rv, m_)) : Con X (2) yX7_opens cX7_opens 2 ((Option.some FieldType.boolean)) [.inr a0, .inl a1] m nx (some (.inl rv)) m_ 0 0 := by
  refine Con.of (own := RX7) (nm := "opens") (L := [some (.inr a0), some (.inl a1)]) (by decide +kernel) rfl rfl (Nat.le_of_ble_eq_true rfl) (ent_of 0 rfl) ?_
  intro cx F
  refine G_aload_n F dX7_opens_0 rfl ?_
  obtain ⟨v1, e_v1, h⟩ := bnd h
  refine G_getI F okX7 (f := 22) (by decide) q1246 rfl dX7_opens_1 e_v1 ?_
  refine G_bipush F (v := (6 : Int32)) dX7_opens_4 (by decide) ?_
  refine G_icmp_ne F (tgt := 19) dX7_opens_6 (by decide) (fun c2 => ?_) (fun c2 => ?_)
  · have h := itf c2 h
    refine G_aload_n F dX7_opens_19 rfl ?_
    refine G_aload_n F dX7_opens_20 rfl ?_
    obtain ⟨v3, e_v3, h⟩ := bnd h
    refine G_getI F okX7 (f := 22) (by decide) q1246 rfl dX7_opens_21 e_v3 ?_
    refine G_iconst F (v := (1 : Int32)) dX7_opens_24 (by decide) ?_
    refine G_iadd F dX7_opens_25 ?_
    obtain ⟨m4, e_m4, h⟩ := bnd h
    refine G_putV F okX7 (f := 22) (by decide) q1246 rfl rfl dX7_opens_26 (vfit_int _) e_m4 ?_
    refine G_aload_n F dX7_opens_29 rfl ?_
    obtain ⟨v5, e_v5, h⟩ := bnd h
    refine G_getR F okX7 (f := 28) (by decide) q1252 rfl dX7_opens_30 e_v5 ?_
    refine G_aload_n F dX7_opens_33 rfl ?_
    obtain ⟨v6, e_v6, h⟩ := bnd h
    refine G_getI F okX7 (f := 24) (by decide) q1248 rfl dX7_opens_34 e_v6 ?_
    refine G_ldc F q1480 dX7_opens_37 ?_
    refine G_iload_n F dX7_opens_39 rfl ?_
    refine G_imul F dX7_opens_40 ?_
    obtain ⟨m7, e_m7, h⟩ := bnd h
    refine G_iast F dX7_opens_41 e_m7 ?_
    refine G_aload_n F dX7_opens_42 rfl ?_
    refine G_aload_n F dX7_opens_43 rfl ?_
    obtain ⟨v8, e_v8, h⟩ := bnd h
    refine G_getI F okX7 (f := 24) (by decide) q1248 rfl dX7_opens_44 e_v8 ?_
    refine G_iconst F (v := (1 : Int32)) dX7_opens_47 (by decide) ?_
    refine G_iadd F dX7_opens_48 ?_
    obtain ⟨m9, e_m9, h⟩ := bnd h
    refine G_putV F okX7 (f := 24) (by decide) q1248 rfl rfl dX7_opens_49 (vfit_int _) e_m9 ?_
    refine G_aload_n F dX7_opens_52 rfl ?_
    refine G_aload_n F dX7_opens_53 rfl ?_
    obtain ⟨v10, e_v10, h⟩ := bnd h
    refine G_getI F okX7 (f := 18) (by decide) q1242 rfl dX7_opens_54 e_v10 ?_
    refine G_iconst F (v := (1 : Int32)) dX7_opens_57 (by decide) ?_
    refine G_iadd F dX7_opens_58 ?_
    obtain ⟨m11, e_m11, h⟩ := bnd h
    refine G_putV F okX7 (f := 18) (by decide) q1242 rfl rfl dX7_opens_59 (vfit_int _) e_m11 ?_
    refine G_iconst F (v := (1 : Int32)) dX7_opens_62 (by decide) ?_
    cases h
    exact G_zret F rfl (Or.inr rfl) (Nat.le_refl _) (Nat.le_refl _) rfl dX7_opens_63
  · have h := itt c2 h
    refine G_aload_n F dX7_opens_9 rfl ?_
    refine G_iconst F (v := (5 : Int32)) dX7_opens_10 (by decide) ?_
    refine G_aload_n F dX7_opens_11 rfl ?_
    obtain ⟨v12, e_v12, h⟩ := bnd h
    refine G_getI F okX7 (f := 18) (by decide) q1242 rfl dX7_opens_12 e_v12 ?_
    obtain ⟨⟨v13, m14⟩, e_v13, h⟩ := bnd h
    obtain ⟨hc_v13, e_v13⟩ := hp_on_of e_v13
    refine G_callVv F (As := [.inl (5 : Int32), .inl v12]) (st := []) (metX7_wrongAt X e_v13) hc_v13 rfl rfl (lw_V q1464 q1466 qs47 q109 q1467) hdfX7_wrongAt ⟨by omega, by decide⟩ rfl (Nat.le_of_ble_eq_true rfl) ⟨by omega, by omega⟩ dX7_opens_15 ?_
    obtain ⟨z15, e_z15, h⟩ := bnd h
    have hz_ := hp_z_of e_z15
    cases h
    exact G_zretz F rfl hz_ (Nat.le_refl _) (Nat.le_refl _) rfl dX7_opens_18

theorem metX7_waitTop (X : Gx) {m : Hp} {nx : Nat} {a0 : Option Nat} {rv : Int32} (h : fX7_waitTop m a0 = some rv) : Con X (1) yX7_waitTop cX7_waitTop 1 ((Option.some FieldType.int)) [.inr a0] m nx (some (.inl rv)) m 0 0 := by
  refine Con.of (own := RX7) (nm := "waitTop") (L := [some (.inr a0)]) (by decide +kernel) rfl rfl (Nat.le_of_ble_eq_true rfl) (ent_of 0 rfl) ?_
  intro cx F
  refine G_aload_n F dX7_waitTop_0 rfl ?_
  obtain ⟨v1, e_v1, h⟩ := bnd h
  refine G_getI F okX7 (f := 24) (by decide) q1248 rfl dX7_waitTop_1 e_v1 ?_
  refine G_if_ne F (tgt := 11) dX7_waitTop_4 (by decide) (fun c2 => ?_) (fun c2 => ?_)
  · have h := itf c2 h
    refine G_aload_n F dX7_waitTop_11 rfl ?_
    obtain ⟨v3, e_v3, h⟩ := bnd h
    refine G_getR F okX7 (f := 28) (by decide) q1252 rfl dX7_waitTop_12 e_v3 ?_
    refine G_aload_n F dX7_waitTop_15 rfl ?_
    obtain ⟨v4, e_v4, h⟩ := bnd h
    refine G_getI F okX7 (f := 24) (by decide) q1248 rfl dX7_waitTop_16 e_v4 ?_
    refine G_iconst F (v := (1 : Int32)) dX7_waitTop_19 (by decide) ?_
    refine G_isub F dX7_waitTop_20 ?_
    obtain ⟨v5, e_v5, h⟩ := bnd h
    refine G_iald F dX7_waitTop_21 e_v5 ?_
    refine G_ldc F q1480 dX7_waitTop_22 ?_
    refine G_idiv F (by decide) dX7_waitTop_24 ?_
    cases h
    exact G_iret F rfl (Nat.le_refl _) (Nat.le_refl _) rfl dX7_waitTop_25
  · have h := itt c2 h
    refine G_iconst F (v := (-1 : Int32)) dX7_waitTop_7 (by decide) ?_
    refine G_goto F (tgt := 25) dX7_waitTop_8 (by decide) ?_
    cases h
    exact G_iret F rfl (Nat.le_refl _) (Nat.le_refl _) rfl dX7_waitTop_25

theorem metX7_factOf (X : Gx) {m : Hp} {nx : Nat} {a0 : Int32} {rv : Int32} (h : fX7_factOf a0 = some rv) : Con X (1) yX7_factOf cX7_factOf 1 ((Option.some FieldType.int)) [.inl a0] m nx (some (.inl rv)) m 0 0 := by
  refine Con.of (own := RX7) (nm := "factOf") (L := [some (.inl a0)]) (by decide +kernel) rfl rfl (Nat.le_of_ble_eq_true rfl) (ent_of 0 rfl) ?_
  intro cx F
  refine G_iload_n F dX7_factOf_0 rfl ?_
  by_cases c1 : a0 = (102 : Int32)
  · have h := itt c1 h
    refine G_tabIn F (tgt := 108) dX7_factOf_1 (by rw [c1]; decide) (by rw [c1]; decide) (by rw [c1]; rfl) (by decide) ?_
    refine G_bipush F (v := (6 : Int32)) dX7_factOf_108 (by decide) ?_
    cases h
    exact G_iret F rfl (Nat.le_refl _) (Nat.le_refl _) rfl dX7_factOf_110
  have h := itf c1 h
  by_cases c2 : a0 = (107 : Int32)
  · have h := itt c2 h
    refine G_tabIn F (tgt := 100) dX7_factOf_1 (by rw [c2]; decide) (by rw [c2]; decide) (by rw [c2]; rfl) (by decide) ?_
    refine G_iconst F (v := (2 : Int32)) dX7_factOf_100 (by decide) ?_
    cases h
    exact G_iret F rfl (Nat.le_refl _) (Nat.le_refl _) rfl dX7_factOf_101
  have h := itf c2 h
  by_cases c3 : a0 = (108 : Int32)
  · have h := itt c3 h
    refine G_tabIn F (tgt := 102) dX7_factOf_1 (by rw [c3]; decide) (by rw [c3]; decide) (by rw [c3]; rfl) (by decide) ?_
    refine G_iconst F (v := (3 : Int32)) dX7_factOf_102 (by decide) ?_
    cases h
    exact G_iret F rfl (Nat.le_refl _) (Nat.le_refl _) rfl dX7_factOf_103
  have h := itf c3 h
  by_cases c4 : a0 = (110 : Int32)
  · have h := itt c4 h
    refine G_tabIn F (tgt := 104) dX7_factOf_1 (by rw [c4]; decide) (by rw [c4]; decide) (by rw [c4]; rfl) (by decide) ?_
    refine G_iconst F (v := (4 : Int32)) dX7_factOf_104 (by decide) ?_
    cases h
    exact G_iret F rfl (Nat.le_refl _) (Nat.le_refl _) rfl dX7_factOf_105
  have h := itf c4 h
  by_cases c5 : a0 = (112 : Int32)
  · have h := itt c5 h
    refine G_tabIn F (tgt := 106) dX7_factOf_1 (by rw [c5]; decide) (by rw [c5]; decide) (by rw [c5]; rfl) (by decide) ?_
    refine G_iconst F (v := (5 : Int32)) dX7_factOf_106 (by decide) ?_
    cases h
    exact G_iret F rfl (Nat.le_refl _) (Nat.le_refl _) rfl dX7_factOf_107
  have h := itf c5 h
  by_cases c6 : a0 = (114 : Int32)
  · have h := itt c6 h
    refine G_tabIn F (tgt := 96) dX7_factOf_1 (by rw [c6]; decide) (by rw [c6]; decide) (by rw [c6]; rfl) (by decide) ?_
    refine G_iconst F (v := (0 : Int32)) dX7_factOf_96 (by decide) ?_
    cases h
    exact G_iret F rfl (Nat.le_refl _) (Nat.le_refl _) rfl dX7_factOf_97
  have h := itf c6 h
  by_cases c7 : a0 = (115 : Int32)
  · have h := itt c7 h
    refine G_tabIn F (tgt := 98) dX7_factOf_1 (by rw [c7]; decide) (by rw [c7]; decide) (by rw [c7]; rfl) (by decide) ?_
    refine G_iconst F (v := (1 : Int32)) dX7_factOf_98 (by decide) ?_
    cases h
    exact G_iret F rfl (Nat.le_refl _) (Nat.le_refl _) rfl dX7_factOf_99
  have h := itf c7 h
  by_cases c8 : a0 = (117 : Int32)
  · have h := itt c8 h
    refine G_tabIn F (tgt := 114) dX7_factOf_1 (by rw [c8]; decide) (by rw [c8]; decide) (by rw [c8]; rfl) (by decide) ?_
    refine G_bipush F (v := (8 : Int32)) dX7_factOf_114 (by decide) ?_
    cases h
    exact G_iret F rfl (Nat.le_refl _) (Nat.le_refl _) rfl dX7_factOf_116
  have h := itf c8 h
  by_cases c9 : a0 = (121 : Int32)
  · have h := itt c9 h
    refine G_tabIn F (tgt := 111) dX7_factOf_1 (by rw [c9]; decide) (by rw [c9]; decide) (by rw [c9]; rfl) (by decide) ?_
    refine G_bipush F (v := (7 : Int32)) dX7_factOf_111 (by decide) ?_
    cases h
    exact G_iret F rfl (Nat.le_refl _) (Nat.le_refl _) rfl dX7_factOf_113
  have h := itf c9 h
  refine G_tabDef F (tgt := 117) dX7_factOf_1 [(102 : Int32), (107 : Int32), (108 : Int32), (110 : Int32), (112 : Int32), (114 : Int32), (115 : Int32), (117 : Int32), (121 : Int32)] (by decide) (by decide) (List.forall_mem_cons.mpr ⟨c1, List.forall_mem_cons.mpr ⟨c2, List.forall_mem_cons.mpr ⟨c3, List.forall_mem_cons.mpr ⟨c4, List.forall_mem_cons.mpr ⟨c5, List.forall_mem_cons.mpr ⟨c6, List.forall_mem_cons.mpr ⟨c7, List.forall_mem_cons.mpr ⟨c8, List.forall_mem_cons.mpr ⟨c9, fa_nil⟩⟩⟩⟩⟩⟩⟩⟩⟩) (by decide) ?_
  refine G_iconst F (v := (-1 : Int32)) dX7_factOf_117 (by decide) ?_
  cases h
  exact G_iret F rfl (Nat.le_refl _) (Nat.le_refl _) rfl dX7_factOf_118

theorem metX7_sumSign (X : Gx) {m : Hp} {nx : Nat} {a0 : Int32} {rv : Int32} (h : fX7_sumSign a0 = some rv) : Con X (1) yX7_sumSign cX7_sumSign 1 ((Option.some FieldType.int)) [.inl a0] m nx (some (.inl rv)) m 0 0 := by
  refine Con.of (own := RX7) (nm := "sumSign") (L := [some (.inl a0)]) (by decide +kernel) rfl rfl (Nat.le_of_ble_eq_true rfl) (ent_of 0 rfl) ?_
  intro cx F
  refine G_iload_n F dX7_sumSign_0 rfl ?_
  refine G_bipush F (v := (43 : Int32)) dX7_sumSign_1 (by decide) ?_
  refine G_icmp_ne F (tgt := 10) dX7_sumSign_3 (by decide) (fun c1 => ?_) (fun c1 => ?_)
  · have h := itf c1 h
    refine G_iload_n F dX7_sumSign_10 rfl ?_
    refine G_bipush F (v := (45 : Int32)) dX7_sumSign_11 (by decide) ?_
    refine G_icmp_ne F (tgt := 20) dX7_sumSign_13 (by decide) (fun c2 => ?_) (fun c2 => ?_)
    · have h := itf c2 h
      refine G_iload_n F dX7_sumSign_20 rfl ?_
      refine G_bipush F (v := (42 : Int32)) dX7_sumSign_21 (by decide) ?_
      refine G_icmp_ne F (tgt := 30) dX7_sumSign_23 (by decide) (fun c3 => ?_) (fun c3 => ?_)
      · have h := itf c3 h
        refine G_iload_n F dX7_sumSign_30 rfl ?_
        refine G_bipush F (v := (47 : Int32)) dX7_sumSign_31 (by decide) ?_
        refine G_icmp_ne F (tgt := 40) dX7_sumSign_33 (by decide) (fun c4 => ?_) (fun c4 => ?_)
        · have h := itf c4 h
          refine G_iload_n F dX7_sumSign_40 rfl ?_
          refine G_bipush F (v := (37 : Int32)) dX7_sumSign_41 (by decide) ?_
          refine G_icmp_ne F (tgt := 51) dX7_sumSign_43 (by decide) (fun c5 => ?_) (fun c5 => ?_)
          · have h := itf c5 h
            refine G_iconst F (v := (-1 : Int32)) dX7_sumSign_51 (by decide) ?_
            cases h
            exact G_iret F rfl (Nat.le_refl _) (Nat.le_refl _) rfl dX7_sumSign_52
          · have h := itt c5 h
            refine G_bipush F (v := (6 : Int32)) dX7_sumSign_46 (by decide) ?_
            refine G_goto F (tgt := 52) dX7_sumSign_48 (by decide) ?_
            cases h
            exact G_iret F rfl (Nat.le_refl _) (Nat.le_refl _) rfl dX7_sumSign_52
        · have h := itt c4 h
          refine G_iconst F (v := (5 : Int32)) dX7_sumSign_36 (by decide) ?_
          refine G_goto F (tgt := 52) dX7_sumSign_37 (by decide) ?_
          cases h
          exact G_iret F rfl (Nat.le_refl _) (Nat.le_refl _) rfl dX7_sumSign_52
      · have h := itt c3 h
        refine G_iconst F (v := (4 : Int32)) dX7_sumSign_26 (by decide) ?_
        refine G_goto F (tgt := 52) dX7_sumSign_27 (by decide) ?_
        cases h
        exact G_iret F rfl (Nat.le_refl _) (Nat.le_refl _) rfl dX7_sumSign_52
    · have h := itt c2 h
      refine G_iconst F (v := (3 : Int32)) dX7_sumSign_16 (by decide) ?_
      refine G_goto F (tgt := 52) dX7_sumSign_17 (by decide) ?_
      cases h
      exact G_iret F rfl (Nat.le_refl _) (Nat.le_refl _) rfl dX7_sumSign_52
  · have h := itt c1 h
    refine G_iconst F (v := (2 : Int32)) dX7_sumSign_6 (by decide) ?_
    refine G_goto F (tgt := 52) dX7_sumSign_7 (by decide) ?_
    cases h
    exact G_iret F rfl (Nat.le_refl _) (Nat.le_refl _) rfl dX7_sumSign_52

theorem metX7_closesSums (X : Gx) {m : Hp} {nx : Nat} {a0 : Option Nat} {a1 : Int32} {m_ : Hp} (h : fX7_closesSums m a0 a1 = some m_) : Con X (2) yX7_closesSums cX7_closesSums 2 ((none : Option FieldType)) [.inr a0, .inl a1] m nx none m_ 0 0 := by
  refine Con.of (own := RX7) (nm := "closesSums") (L := [some (.inr a0), some (.inl a1)]) (by decide +kernel) rfl rfl (Nat.le_of_ble_eq_true rfl) (ent_of 0 rfl) ?_
  intro cx F
  obtain ⟨r1, hr1, h⟩ := bnd h
  have KE1 : ∀ (m26 : Hp), m26 = r1 → G X cx 2 (Qm X cx none m_ nx 0 0) (0) (0) m26 (nx) [none, none] [] 59 := by
    intro m26 hq
    subst hq
    try dsimp only at h
    cases h
    exact G_vret F rfl (Nat.le_refl _) (Nat.le_refl _) rfl dX7_closesSums_59
  have KB1 : ∀ s o1, fX7_closesSums_L0 a0 a1 s = some o1 → (∀ s', o1 = Sum.inl s' → (fun (s : Hp) => match s with | m1 => G X cx 2 (Qm X cx none m_ nx 0 0) (0) (0) m1 (nx) [some (.inr a0), some (.inl a1)] [] 0) s') → (∀ q, o1 = Sum.inr q → q = r1) → (fun (s : Hp) => match s with | m1 => G X cx 2 (Qm X cx none m_ nx 0 0) (0) (0) m1 (nx) [some (.inr a0), some (.inl a1)] [] 0) s := by
    intro s o1 h hP1 hE1
    obtain ⟨m1, hs_⟩ : ∃ x, x = s := ⟨_, rfl⟩
    subst hs_
    try dsimp only at hP1 hE1 ⊢
    refine G_aload_n F dX7_closesSums_0 rfl ?_
    obtain ⟨v2, e_v2, h⟩ := bnd h
    obtain ⟨hc_v2, e_v2⟩ := hp_on_of e_v2
    refine G_callVv F (As := []) (st := []) (metX7_waitTop X e_v2) hc_v2 rfl rfl (lw_V q1503 q1505 qs55 q109 q1506) hdfX7_waitTop ⟨by omega, by decide⟩ rfl (Nat.le_of_ble_eq_true rfl) ⟨by omega, by omega⟩ dX7_closesSums_1 ?_
    refine G_iconst F (v := (4 : Int32)) dX7_closesSums_4 (by decide) ?_
    refine G_icmp_lt F (tgt := 17) dX7_closesSums_5 (by decide) (fun c3 => ?_) (fun c3 => ?_)
    · have h := itt c3 h
      refine G_iload_n F dX7_closesSums_17 rfl ?_
      refine G_if_eq F (tgt := 59) dX7_closesSums_18 (by decide) (fun c4 => ?_) (fun c4 => ?_)
      · have h := itt c4 h
        cases h
        exact G_sub F (L2 := [none, none]) trivial (KE1 _ (hE1 _ rfl))
      · have h := itf c4 h
        refine G_aload_n F dX7_closesSums_21 rfl ?_
        obtain ⟨v5, e_v5, h⟩ := bnd h
        obtain ⟨hc_v5, e_v5⟩ := hp_on_of e_v5
        refine G_callVv F (As := []) (st := []) (metX7_waitTop X e_v5) hc_v5 rfl rfl (lw_V q1503 q1505 qs55 q109 q1506) hdfX7_waitTop ⟨by omega, by decide⟩ rfl (Nat.le_of_ble_eq_true rfl) ⟨by omega, by omega⟩ dX7_closesSums_22 ?_
        refine G_iconst F (v := (2 : Int32)) dX7_closesSums_25 (by decide) ?_
        obtain ⟨p6, hp6, h⟩ := bnd h
        have K6 : ∀ (_ : Unit), Sum.inl () = p6 → G X cx 2 (Qm X cx none m_ nx 0 0) (0) (0) m1 (nx) [some (.inr a0), some (.inl a1)] [] 37 := by
          intro _ hq
          subst hq
          try dsimp only at h
          refine G_aload_n F dX7_closesSums_37 rfl ?_
          refine G_aload_n F dX7_closesSums_38 rfl ?_
          obtain ⟨v7, e_v7, h⟩ := bnd h
          obtain ⟨hc_v7, e_v7⟩ := hp_on_of e_v7
          refine G_callVv F (As := []) (st := [.inr a0]) (metX7_waitTop X e_v7) hc_v7 rfl rfl (lw_V q1503 q1505 qs55 q109 q1506) hdfX7_waitTop ⟨by omega, by decide⟩ rfl (Nat.le_of_ble_eq_true rfl) ⟨by omega, by omega⟩ dX7_closesSums_39 ?_
          refine G_iconst F (v := (0 : Int32)) dX7_closesSums_42 (by decide) ?_
          obtain ⟨m8, e_m8, h⟩ := bnd h
          obtain ⟨hc_m8, e_m8⟩ := hp_on_of e_m8
          refine G_callV0 F (As := [.inl v7, .inl (0 : Int32)]) (st := []) (metX7_notes X e_m8) hc_m8 rfl rfl (lw_V q1489 q1491 qs53 q109 q1492) hdfX7_notes ⟨by omega, by decide⟩ rfl (Nat.le_of_ble_eq_true rfl) ⟨by omega, by omega⟩ dX7_closesSums_43 ?_
          refine G_aload_n F dX7_closesSums_46 rfl ?_
          refine G_aload_n F dX7_closesSums_47 rfl ?_
          obtain ⟨v9, e_v9, h⟩ := bnd h
          refine G_getI F okX7 (f := 24) (by decide) q1248 rfl dX7_closesSums_48 e_v9 ?_
          refine G_iconst F (v := (1 : Int32)) dX7_closesSums_51 (by decide) ?_
          refine G_isub F dX7_closesSums_52 ?_
          obtain ⟨m10, e_m10, h⟩ := bnd h
          refine G_putV F okX7 (f := 24) (by decide) q1248 rfl rfl dX7_closesSums_53 (vfit_int _) e_m10 ?_
          refine G_goto F (tgt := 0) dX7_closesSums_56 (by decide) ?_
          cases h
          exact G_sub F (L2 := [some (.inr a0), some (.inl a1)]) ⟨rfl, ⟨rfl, trivial⟩⟩ (hP1 _ rfl)
        have K6o : ∀ o, Sum.inr o = p6 → some o = some o1 := by
          intro o hq
          subst hq
          exact h
        have h := hp6
        clear hp6
        refine G_icmp_eq F (tgt := 37) dX7_closesSums_26 (by decide) (fun c11 => ?_) (fun c11 => ?_)
        · have h := itt c11 h
          have hq_ := Option.some.inj h
          exact G_sub F (L2 := [some (.inr a0), some (.inl a1)]) ⟨rfl, ⟨rfl, trivial⟩⟩ (K6 () hq_)
        · have h := itf c11 h
          refine G_aload_n F dX7_closesSums_29 rfl ?_
          obtain ⟨v12, e_v12, h⟩ := bnd h
          obtain ⟨hc_v12, e_v12⟩ := hp_on_of e_v12
          refine G_callVv F (As := []) (st := []) (metX7_waitTop X e_v12) hc_v12 rfl rfl (lw_V q1503 q1505 qs55 q109 q1506) hdfX7_waitTop ⟨by omega, by decide⟩ rfl (Nat.le_of_ble_eq_true rfl) ⟨by omega, by omega⟩ dX7_closesSums_30 ?_
          refine G_iconst F (v := (3 : Int32)) dX7_closesSums_33 (by decide) ?_
          refine G_icmp_ne F (tgt := 59) dX7_closesSums_34 (by decide) (fun c13 => ?_) (fun c13 => ?_)
          · have h := itf c13 h
            have hq_ := Option.some.inj h
            have h := K6o _ hq_
            cases h
            exact G_sub F (L2 := [none, none]) trivial (KE1 _ (hE1 _ rfl))
          · have h := itt c13 h
            have hq_ := Option.some.inj h
            exact G_sub F (L2 := [some (.inr a0), some (.inl a1)]) ⟨rfl, ⟨rfl, trivial⟩⟩ (K6 () hq_)
    · have h := itf c3 h
      refine G_aload_n F dX7_closesSums_8 rfl ?_
      obtain ⟨v14, e_v14, h⟩ := bnd h
      obtain ⟨hc_v14, e_v14⟩ := hp_on_of e_v14
      refine G_callVv F (As := []) (st := []) (metX7_waitTop X e_v14) hc_v14 rfl rfl (lw_V q1503 q1505 qs55 q109 q1506) hdfX7_waitTop ⟨by omega, by decide⟩ rfl (Nat.le_of_ble_eq_true rfl) ⟨by omega, by omega⟩ dX7_closesSums_9 ?_
      refine G_bipush F (v := (6 : Int32)) dX7_closesSums_12 (by decide) ?_
      obtain ⟨p15, hp15, h⟩ := bnd h
      have K15 : ∀ (_ : Unit), Sum.inl () = p15 → G X cx 2 (Qm X cx none m_ nx 0 0) (0) (0) m1 (nx) [some (.inr a0), some (.inl a1)] [] 37 := by
        intro _ hq
        subst hq
        try dsimp only at h
        refine G_aload_n F dX7_closesSums_37 rfl ?_
        refine G_aload_n F dX7_closesSums_38 rfl ?_
        obtain ⟨v16, e_v16, h⟩ := bnd h
        obtain ⟨hc_v16, e_v16⟩ := hp_on_of e_v16
        refine G_callVv F (As := []) (st := [.inr a0]) (metX7_waitTop X e_v16) hc_v16 rfl rfl (lw_V q1503 q1505 qs55 q109 q1506) hdfX7_waitTop ⟨by omega, by decide⟩ rfl (Nat.le_of_ble_eq_true rfl) ⟨by omega, by omega⟩ dX7_closesSums_39 ?_
        refine G_iconst F (v := (0 : Int32)) dX7_closesSums_42 (by decide) ?_
        obtain ⟨m17, e_m17, h⟩ := bnd h
        obtain ⟨hc_m17, e_m17⟩ := hp_on_of e_m17
        refine G_callV0 F (As := [.inl v16, .inl (0 : Int32)]) (st := []) (metX7_notes X e_m17) hc_m17 rfl rfl (lw_V q1489 q1491 qs53 q109 q1492) hdfX7_notes ⟨by omega, by decide⟩ rfl (Nat.le_of_ble_eq_true rfl) ⟨by omega, by omega⟩ dX7_closesSums_43 ?_
        refine G_aload_n F dX7_closesSums_46 rfl ?_
        refine G_aload_n F dX7_closesSums_47 rfl ?_
        obtain ⟨v18, e_v18, h⟩ := bnd h
        refine G_getI F okX7 (f := 24) (by decide) q1248 rfl dX7_closesSums_48 e_v18 ?_
        refine G_iconst F (v := (1 : Int32)) dX7_closesSums_51 (by decide) ?_
        refine G_isub F dX7_closesSums_52 ?_
        obtain ⟨m19, e_m19, h⟩ := bnd h
        refine G_putV F okX7 (f := 24) (by decide) q1248 rfl rfl dX7_closesSums_53 (vfit_int _) e_m19 ?_
        refine G_goto F (tgt := 0) dX7_closesSums_56 (by decide) ?_
        cases h
        exact G_sub F (L2 := [some (.inr a0), some (.inl a1)]) ⟨rfl, ⟨rfl, trivial⟩⟩ (hP1 _ rfl)
      have K15o : ∀ o, Sum.inr o = p15 → some o = some o1 := by
        intro o hq
        subst hq
        exact h
      have h := hp15
      clear hp15
      refine G_icmp_le F (tgt := 37) dX7_closesSums_14 (by decide) (fun c20 => ?_) (fun c20 => ?_)
      · have h := itt c20 h
        have hq_ := Option.some.inj h
        exact G_sub F (L2 := [some (.inr a0), some (.inl a1)]) ⟨rfl, ⟨rfl, trivial⟩⟩ (K15 () hq_)
      · have h := itf c20 h
        refine G_iload_n F dX7_closesSums_17 rfl ?_
        refine G_if_eq F (tgt := 59) dX7_closesSums_18 (by decide) (fun c21 => ?_) (fun c21 => ?_)
        · have h := itt c21 h
          have hq_ := Option.some.inj h
          have h := K15o _ hq_
          cases h
          exact G_sub F (L2 := [none, none]) trivial (KE1 _ (hE1 _ rfl))
        · have h := itf c21 h
          refine G_aload_n F dX7_closesSums_21 rfl ?_
          obtain ⟨v22, e_v22, h⟩ := bnd h
          obtain ⟨hc_v22, e_v22⟩ := hp_on_of e_v22
          refine G_callVv F (As := []) (st := []) (metX7_waitTop X e_v22) hc_v22 rfl rfl (lw_V q1503 q1505 qs55 q109 q1506) hdfX7_waitTop ⟨by omega, by decide⟩ rfl (Nat.le_of_ble_eq_true rfl) ⟨by omega, by omega⟩ dX7_closesSums_22 ?_
          refine G_iconst F (v := (2 : Int32)) dX7_closesSums_25 (by decide) ?_
          refine G_icmp_eq F (tgt := 37) dX7_closesSums_26 (by decide) (fun c23 => ?_) (fun c23 => ?_)
          · have h := itt c23 h
            have hq_ := Option.some.inj h
            exact G_sub F (L2 := [some (.inr a0), some (.inl a1)]) ⟨rfl, ⟨rfl, trivial⟩⟩ (K15 () hq_)
          · have h := itf c23 h
            refine G_aload_n F dX7_closesSums_29 rfl ?_
            obtain ⟨v24, e_v24, h⟩ := bnd h
            obtain ⟨hc_v24, e_v24⟩ := hp_on_of e_v24
            refine G_callVv F (As := []) (st := []) (metX7_waitTop X e_v24) hc_v24 rfl rfl (lw_V q1503 q1505 qs55 q109 q1506) hdfX7_waitTop ⟨by omega, by decide⟩ rfl (Nat.le_of_ble_eq_true rfl) ⟨by omega, by omega⟩ dX7_closesSums_30 ?_
            refine G_iconst F (v := (3 : Int32)) dX7_closesSums_33 (by decide) ?_
            refine G_icmp_ne F (tgt := 59) dX7_closesSums_34 (by decide) (fun c25 => ?_) (fun c25 => ?_)
            · have h := itf c25 h
              have hq_ := Option.some.inj h
              have h := K15o _ hq_
              cases h
              exact G_sub F (L2 := [none, none]) trivial (KE1 _ (hE1 _ rfl))
            · have h := itt c25 h
              have hq_ := Option.some.inj h
              exact G_sub F (L2 := [some (.inr a0), some (.inl a1)]) ⟨rfl, ⟨rfl, trivial⟩⟩ (K15 () hq_)
  have hI := iter_ok (fun (s : Hp) => match s with | m1 => G X cx 2 (Qm X cx none m_ nx 0 0) (0) (0) m1 (nx) [some (.inr a0), some (.inl a1)] [] 0) (fun q => q = r1) KB1 _ _ _ hr1 rfl
  exact G_sub F (L2 := [some (.inr a0), some (.inl a1)]) ⟨rfl, ⟨rfl, trivial⟩⟩ hI

theorem metX7_readsFactor (X : Gx) {m : Hp} {nx : Nat} {a0 : Option Nat} {rv : Int32} {m_ : Hp} (h : fX7_readsFactor m a0 = some (rv, m_)) : Con X (4) yX7_readsFactor cX7_readsFactor 2 ((Option.some FieldType.boolean)) [.inr a0] m nx (some (.inl rv)) m_ 0 0 := by
  refine Con.of (own := RX7) (nm := "readsFactor") (L := [some (.inr a0), none]) (by decide +kernel) rfl rfl (Nat.le_of_ble_eq_true rfl) (ent_of 1 rfl) ?_
  intro cx F
  obtain ⟨r1, hr1, h⟩ := bnd h
  have KE1 : ∀ (m7 : Hp), Sum.inl m7 = r1 → G X cx 2 (Qm X cx (some (.inl rv)) m_ nx 0 0) (0) (0) m7 (nx) [some (.inr a0), none] [] 20 := by
    intro m7 hq
    subst hq
    try dsimp only at h
    refine G_aload_n F dX7_readsFactor_20 rfl ?_
    obtain ⟨v8, e_v8, h⟩ := bnd h
    obtain ⟨hc_v8, e_v8⟩ := hp_on_of e_v8
    refine G_callVv F (As := []) (st := []) (metX7_isDigit X e_v8) hc_v8 rfl rfl (lw_V q1481 q1483 qs51 q109 q1484) hdfX7_isDigit ⟨by omega, by decide⟩ rfl (Nat.le_of_ble_eq_true rfl) ⟨by omega, by omega⟩ dX7_readsFactor_21 ?_
    refine G_if_eq F (tgt := 47) dX7_readsFactor_24 (by decide) (fun c9 => ?_) (fun c9 => ?_)
    · have h := itt c9 h
      refine G_aload_n F dX7_readsFactor_47 rfl ?_
      obtain ⟨v10, e_v10, h⟩ := bnd h
      obtain ⟨hc_v10, e_v10⟩ := hp_on_of e_v10
      refine G_callVv F (As := []) (st := []) (metX7_here X e_v10) hc_v10 rfl rfl (lw_V q1460 q1462 qs46 q109 q1463) hdfX7_here ⟨by omega, by decide⟩ rfl (Nat.le_of_ble_eq_true rfl) ⟨by omega, by omega⟩ dX7_readsFactor_48 ?_
      obtain ⟨v11, e_v11, h⟩ := bnd h
      refine G_callSv F (As := [.inl v10]) (st := []) (metX7_factOf X e_v11) (lw_S q1493 q1494 q109 q1495) hdfX7_factOf ⟨by omega, by decide⟩ rfl (Nat.le_of_ble_eq_true rfl) ⟨by omega, by omega⟩ dX7_readsFactor_51 ?_
      refine G_istore_n F (L2 := [some (.inr a0), some (.inl v11)]) dX7_readsFactor_54 (by decide) rfl ?_
      refine G_iload_n F dX7_readsFactor_55 rfl ?_
      refine G_iconst F (v := (-1 : Int32)) dX7_readsFactor_56 (by decide) ?_
      refine G_icmp_ne F (tgt := 70) dX7_readsFactor_57 (by decide) (fun c12 => ?_) (fun c12 => ?_)
      · have h := itf c12 h
        refine G_aload_n F dX7_readsFactor_70 rfl ?_
        refine G_iconst F (v := (1 : Int32)) dX7_readsFactor_71 (by decide) ?_
        refine G_iload_n F dX7_readsFactor_72 rfl ?_
        obtain ⟨m13, e_m13, h⟩ := bnd h
        obtain ⟨hc_m13, e_m13⟩ := hp_on_of e_m13
        refine G_callV0 F (As := [.inl (1 : Int32), .inl v11]) (st := []) (metX7_notes X e_m13) hc_m13 rfl rfl (lw_V q1489 q1491 qs53 q109 q1492) hdfX7_notes ⟨by omega, by decide⟩ rfl (Nat.le_of_ble_eq_true rfl) ⟨by omega, by omega⟩ dX7_readsFactor_73 ?_
        refine G_aload_n F dX7_readsFactor_76 rfl ?_
        refine G_aload_n F dX7_readsFactor_77 rfl ?_
        obtain ⟨v14, e_v14, h⟩ := bnd h
        refine G_getI F okX7 (f := 18) (by decide) q1242 rfl dX7_readsFactor_78 e_v14 ?_
        refine G_iconst F (v := (1 : Int32)) dX7_readsFactor_81 (by decide) ?_
        refine G_iadd F dX7_readsFactor_82 ?_
        obtain ⟨m15, e_m15, h⟩ := bnd h
        refine G_putV F okX7 (f := 18) (by decide) q1242 rfl rfl dX7_readsFactor_83 (vfit_int _) e_m15 ?_
        refine G_iconst F (v := (1 : Int32)) dX7_readsFactor_86 (by decide) ?_
        cases h
        exact G_zret F rfl (Or.inr rfl) (Nat.le_refl _) (Nat.le_refl _) rfl dX7_readsFactor_87
      · have h := itt c12 h
        refine G_aload_n F dX7_readsFactor_60 rfl ?_
        refine G_iconst F (v := (1 : Int32)) dX7_readsFactor_61 (by decide) ?_
        refine G_aload_n F dX7_readsFactor_62 rfl ?_
        obtain ⟨v16, e_v16, h⟩ := bnd h
        refine G_getI F okX7 (f := 18) (by decide) q1242 rfl dX7_readsFactor_63 e_v16 ?_
        obtain ⟨⟨v17, m18⟩, e_v17, h⟩ := bnd h
        obtain ⟨hc_v17, e_v17⟩ := hp_on_of e_v17
        refine G_callVv F (As := [.inl (1 : Int32), .inl v16]) (st := []) (metX7_wrongAt X e_v17) hc_v17 rfl rfl (lw_V q1464 q1466 qs47 q109 q1467) hdfX7_wrongAt ⟨by omega, by decide⟩ rfl (Nat.le_of_ble_eq_true rfl) ⟨by omega, by omega⟩ dX7_readsFactor_66 ?_
        obtain ⟨z19, e_z19, h⟩ := bnd h
        have hz_ := hp_z_of e_z19
        cases h
        exact G_zretz F rfl hz_ (Nat.le_refl _) (Nat.le_refl _) rfl dX7_readsFactor_69
    · have h := itf c9 h
      refine G_aload_n F dX7_readsFactor_27 rfl ?_
      obtain ⟨⟨v20, m21⟩, e_v20, h⟩ := bnd h
      obtain ⟨hc_v20, e_v20⟩ := hp_on_of e_v20
      refine G_callVv F (As := []) (st := []) (metX7_readsNumber X e_v20) hc_v20 rfl rfl (lw_V q1485 q1487 qs52 q109 q1488) hdfX7_readsNumber ⟨by omega, by decide⟩ rfl (Nat.le_of_ble_eq_true rfl) ⟨by omega, by omega⟩ dX7_readsFactor_28 ?_
      refine G_if_ne F (tgt := 36) dX7_readsFactor_31 (by decide) (fun c22 => ?_) (fun c22 => ?_)
      · have h := itf c22 h
        refine G_aload_n F dX7_readsFactor_36 rfl ?_
        refine G_iconst F (v := (0 : Int32)) dX7_readsFactor_37 (by decide) ?_
        refine G_aload_n F dX7_readsFactor_38 rfl ?_
        obtain ⟨v23, e_v23, h⟩ := bnd h
        refine G_getI F okX7 (f := 21) (by decide) q1245 rfl dX7_readsFactor_39 e_v23 ?_
        obtain ⟨m24, e_m24, h⟩ := bnd h
        obtain ⟨hc_m24, e_m24⟩ := hp_on_of e_m24
        refine G_callV0 F (As := [.inl (0 : Int32), .inl v23]) (st := []) (metX7_notes X e_m24) hc_m24 rfl rfl (lw_V q1489 q1491 qs53 q109 q1492) hdfX7_notes ⟨by omega, by decide⟩ rfl (Nat.le_of_ble_eq_true rfl) ⟨by omega, by omega⟩ dX7_readsFactor_42 ?_
        refine G_iconst F (v := (1 : Int32)) dX7_readsFactor_45 (by decide) ?_
        cases h
        exact G_zret F rfl (Or.inr rfl) (Nat.le_refl _) (Nat.le_refl _) rfl dX7_readsFactor_46
      · have h := itt c22 h
        refine G_iconst F (v := (0 : Int32)) dX7_readsFactor_34 (by decide) ?_
        cases h
        exact G_zret F rfl (Or.inl rfl) (Nat.le_refl _) (Nat.le_refl _) rfl dX7_readsFactor_35
  have KR1 : ∀ q, Sum.inr q = r1 → some q = some (rv, m_) := by
    intro q hq
    subst hq
    exact h
  have KB1 : ∀ s o1, fX7_readsFactor_L0 a0 s = some o1 → (∀ s', o1 = Sum.inl s' → (fun (s : Hp) => match s with | m1 => G X cx 2 (Qm X cx (some (.inl rv)) m_ nx 0 0) (0) (0) m1 (nx) [some (.inr a0), none] [] 0) s') → (∀ q, o1 = Sum.inr q → q = r1) → (fun (s : Hp) => match s with | m1 => G X cx 2 (Qm X cx (some (.inl rv)) m_ nx 0 0) (0) (0) m1 (nx) [some (.inr a0), none] [] 0) s := by
    intro s o1 h hP1 hE1
    obtain ⟨m1, hs_⟩ : ∃ x, x = s := ⟨_, rfl⟩
    subst hs_
    try dsimp only at hP1 hE1 ⊢
    refine G_aload_n F dX7_readsFactor_0 rfl ?_
    obtain ⟨v2, e_v2, h⟩ := bnd h
    obtain ⟨hc_v2, e_v2⟩ := hp_on_of e_v2
    refine G_callVv F (As := []) (st := []) (metX7_here X e_v2) hc_v2 rfl rfl (lw_V q1460 q1462 qs46 q109 q1463) hdfX7_here ⟨by omega, by decide⟩ rfl (Nat.le_of_ble_eq_true rfl) ⟨by omega, by omega⟩ dX7_readsFactor_1 ?_
    refine G_bipush F (v := (91 : Int32)) dX7_readsFactor_4 (by decide) ?_
    refine G_icmp_ne F (tgt := 20) dX7_readsFactor_6 (by decide) (fun c3 => ?_) (fun c3 => ?_)
    · have h := itf c3 h
      cases h
      exact G_sub F (L2 := [some (.inr a0), none]) ⟨rfl, trivial⟩ (KE1 _ (hE1 _ rfl))
    · have h := itt c3 h
      refine G_aload_n F dX7_readsFactor_9 rfl ?_
      refine G_bipush F (v := (14 : Int32)) dX7_readsFactor_10 (by decide) ?_
      obtain ⟨⟨v4, m5⟩, e_v4, h⟩ := bnd h
      obtain ⟨hc_v4, e_v4⟩ := hp_on_of e_v4
      refine G_callVv F (As := [.inl (14 : Int32)]) (st := []) (metX7_opens X e_v4) hc_v4 rfl rfl (lw_V q1476 q1478 qs50 q109 q1479) hdfX7_opens ⟨by omega, by decide⟩ rfl (Nat.le_of_ble_eq_true rfl) ⟨by omega, by omega⟩ dX7_readsFactor_12 ?_
      refine G_if_ne F (tgt := 0) dX7_readsFactor_15 (by decide) (fun c6 => ?_) (fun c6 => ?_)
      · have h := itf c6 h
        cases h
        exact G_sub F (L2 := [some (.inr a0), none]) ⟨rfl, trivial⟩ (hP1 _ rfl)
      · have h := itt c6 h
        refine G_iconst F (v := (0 : Int32)) dX7_readsFactor_18 (by decide) ?_
        cases h
        have h := KR1 _ (hE1 _ rfl)
        cases h
        exact G_zret F rfl (Or.inl rfl) (Nat.le_refl _) (Nat.le_refl _) rfl dX7_readsFactor_19
  have hI := iter_ok (fun (s : Hp) => match s with | m1 => G X cx 2 (Qm X cx (some (.inl rv)) m_ nx 0 0) (0) (0) m1 (nx) [some (.inr a0), none] [] 0) (fun q => q = r1) KB1 _ _ _ hr1 rfl
  exact G_sub F (L2 := [some (.inr a0), none]) ⟨rfl, trivial⟩ hI

theorem metX7_hasOpenSum (X : Gx) {m : Hp} {nx : Nat} {a0 : Option Nat} {a1 : Int32} {rv : Int32} (h : fX7_hasOpenSum m a0 a1 = some rv) : Con X (1) yX7_hasOpenSum cX7_hasOpenSum 3 ((Option.some FieldType.boolean)) [.inr a0, .inl a1] m nx (some (.inl rv)) m 0 0 := by
  refine Con.of (own := RX7) (nm := "hasOpenSum") (L := [some (.inr a0), some (.inl a1), none]) (by decide +kernel) rfl rfl (Nat.le_of_ble_eq_true rfl) (ent_of 1 rfl) ?_
  intro cx F
  refine G_iload_n F dX7_hasOpenSum_0 rfl ?_
  refine G_istore_n F (L2 := [some (.inr a0), some (.inl a1), some (.inl a1)]) dX7_hasOpenSum_1 (by decide) rfl ?_
  obtain ⟨r1, hr1, h⟩ := bnd h
  have KE1 : ∀ (_ : Unit), Sum.inl () = r1 → G X cx 3 (Qm X cx (some (.inl rv)) m nx 0 0) (0) (0) m (nx) [none, none, none] [] 32 := by
    intro _ hq
    subst hq
    try dsimp only at h
    refine G_iconst F (v := (0 : Int32)) dX7_hasOpenSum_32 (by decide) ?_
    cases h
    exact G_zret F rfl (Or.inl rfl) (Nat.le_refl _) (Nat.le_refl _) rfl dX7_hasOpenSum_33
  have KR1 : ∀ q, Sum.inr q = r1 → some q = some rv := by
    intro q hq
    subst hq
    exact h
  have KB1 : ∀ s o1, fX7_hasOpenSum_L2 m a0 s = some o1 → (∀ s', o1 = Sum.inl s' → (fun (s : Int32) => match s with | s2_1 => G X cx 3 (Qm X cx (some (.inl rv)) m nx 0 0) (0) (0) m (nx) [some (.inr a0), none, some (.inl s2_1)] [] 2) s') → (∀ q, o1 = Sum.inr q → q = r1) → (fun (s : Int32) => match s with | s2_1 => G X cx 3 (Qm X cx (some (.inl rv)) m nx 0 0) (0) (0) m (nx) [some (.inr a0), none, some (.inl s2_1)] [] 2) s := by
    intro s o1 h hP1 hE1
    obtain ⟨s2_1, hs_⟩ : ∃ x, x = s := ⟨_, rfl⟩
    subst hs_
    try dsimp only at hP1 hE1 ⊢
    refine G_iload_n F dX7_hasOpenSum_2 rfl ?_
    refine G_aload_n F dX7_hasOpenSum_3 rfl ?_
    obtain ⟨v2, e_v2, h⟩ := bnd h
    refine G_getI F okX7 (f := 24) (by decide) q1248 rfl dX7_hasOpenSum_4 e_v2 ?_
    refine G_icmp_ge F (tgt := 32) dX7_hasOpenSum_7 (by decide) (fun c3 => ?_) (fun c3 => ?_)
    · have h := itt c3 h
      cases h
      exact G_sub F (L2 := [none, none, none]) trivial (KE1 () (hE1 _ rfl))
    · have h := itf c3 h
      refine G_aload_n F dX7_hasOpenSum_10 rfl ?_
      obtain ⟨v4, e_v4, h⟩ := bnd h
      refine G_getR F okX7 (f := 28) (by decide) q1252 rfl dX7_hasOpenSum_11 e_v4 ?_
      refine G_iload_n F dX7_hasOpenSum_14 rfl ?_
      obtain ⟨v5, e_v5, h⟩ := bnd h
      refine G_iald F dX7_hasOpenSum_15 e_v5 ?_
      refine G_ldc F q1480 dX7_hasOpenSum_16 ?_
      refine G_idiv F (by decide) dX7_hasOpenSum_18 ?_
      refine G_bipush F (v := (14 : Int32)) dX7_hasOpenSum_19 (by decide) ?_
      refine G_icmp_ne F (tgt := 26) dX7_hasOpenSum_21 (by decide) (fun c6 => ?_) (fun c6 => ?_)
      · have h := itf c6 h
        refine G_iinc F (v := (s2_1 + (1 : Int32))) (L2 := [some (.inr a0), none, some (.inl (s2_1 + (1 : Int32)))]) dX7_hasOpenSum_26 (by decide) rfl rfl rfl ?_
        refine G_goto F (tgt := 2) dX7_hasOpenSum_29 (by decide) ?_
        cases h
        exact G_sub F (L2 := [some (.inr a0), none, some (.inl (s2_1 + (1 : Int32)))]) ⟨rfl, ⟨rfl, trivial⟩⟩ (hP1 _ rfl)
      · have h := itt c6 h
        refine G_iconst F (v := (1 : Int32)) dX7_hasOpenSum_24 (by decide) ?_
        cases h
        have h := KR1 _ (hE1 _ rfl)
        cases h
        exact G_zret F rfl (Or.inr rfl) (Nat.le_refl _) (Nat.le_refl _) rfl dX7_hasOpenSum_25
  have hI := iter_ok (fun (s : Int32) => match s with | s2_1 => G X cx 3 (Qm X cx (some (.inl rv)) m nx 0 0) (0) (0) m (nx) [some (.inr a0), none, some (.inl s2_1)] [] 2) (fun q => q = r1) KB1 _ _ _ hr1 rfl
  exact G_sub F (L2 := [some (.inr a0), none, some (.inl a1)]) ⟨rfl, ⟨rfl, trivial⟩⟩ hI

theorem metX7_readsSum (X : Gx) {m : Hp} {nx : Nat} {a0 : Option Nat} {rv : Int32} {m_ : Hp} (h : fX7_readsSum m a0 = some (rv, m_)) : Con X (5) yX7_readsSum cX7_readsSum 3 ((Option.some FieldType.boolean)) [.inr a0] m nx (some (.inl rv)) m_ 0 0 := by
  refine Con.of (own := RX7) (nm := "readsSum") (L := [some (.inr a0), none, none]) (by decide +kernel) rfl rfl (Nat.le_of_ble_eq_true rfl) (ent_of 2 rfl) ?_
  intro cx F
  refine G_aload_n F dX7_readsSum_0 rfl ?_
  obtain ⟨v1, e_v1, h⟩ := bnd h
  refine G_getI F okX7 (f := 24) (by decide) q1248 rfl dX7_readsSum_1 e_v1 ?_
  refine G_istore_n F (L2 := [some (.inr a0), some (.inl v1), none]) dX7_readsSum_4 (by decide) rfl ?_
  refine G_aload_n F dX7_readsSum_5 rfl ?_
  obtain ⟨⟨v2, m3⟩, e_v2, h⟩ := bnd h
  obtain ⟨hc_v2, e_v2⟩ := hp_on_of e_v2
  refine G_callVv F (As := []) (st := []) (metX7_readsFactor X e_v2) hc_v2 rfl rfl (lw_V q1472 q1474 qs49 q109 q1475) hdfX7_readsFactor ⟨by omega, by decide⟩ rfl (Nat.le_of_ble_eq_true rfl) ⟨by omega, by omega⟩ dX7_readsSum_6 ?_
  refine G_if_ne F (tgt := 14) dX7_readsSum_9 (by decide) (fun c4 => ?_) (fun c4 => ?_)
  · have h := itf c4 h
    obtain ⟨r5, hr5, h⟩ := bnd h
    have KR5 : ∀ q, q = r5 → some q = some (rv, m_) := by
      intro q hq
      subst hq
      exact h
    have KB5 : ∀ s o5, fX7_readsSum_L14 a0 v1 s = some o5 → (∀ s', o5 = Sum.inl s' → (fun (s : Hp) => match s with | m5 => G X cx 3 (Qm X cx (some (.inl rv)) m_ nx 0 0) (0) (0) m5 (nx) [some (.inr a0), some (.inl v1), none] [] 14) s') → (∀ q, o5 = Sum.inr q → q = r5) → (fun (s : Hp) => match s with | m5 => G X cx 3 (Qm X cx (some (.inl rv)) m_ nx 0 0) (0) (0) m5 (nx) [some (.inr a0), some (.inl v1), none] [] 14) s := by
      intro s o5 h hP5 hE5
      obtain ⟨m5, hs_⟩ : ∃ x, x = s := ⟨_, rfl⟩
      subst hs_
      try dsimp only at hP5 hE5 ⊢
      refine G_aload_n F dX7_readsSum_14 rfl ?_
      obtain ⟨v6, e_v6, h⟩ := bnd h
      obtain ⟨hc_v6, e_v6⟩ := hp_on_of e_v6
      refine G_callVv F (As := []) (st := []) (metX7_here X e_v6) hc_v6 rfl rfl (lw_V q1460 q1462 qs46 q109 q1463) hdfX7_here ⟨by omega, by decide⟩ rfl (Nat.le_of_ble_eq_true rfl) ⟨by omega, by omega⟩ dX7_readsSum_15 ?_
      obtain ⟨v7, e_v7, h⟩ := bnd h
      refine G_callSv F (As := [.inl v6]) (st := []) (metX7_sumSign X e_v7) (lw_S q1496 q1497 q109 q1498) hdfX7_sumSign ⟨by omega, by decide⟩ rfl (Nat.le_of_ble_eq_true rfl) ⟨by omega, by omega⟩ dX7_readsSum_18 ?_
      refine G_istore_n F (L2 := [some (.inr a0), some (.inl v1), some (.inl v7)]) dX7_readsSum_21 (by decide) rfl ?_
      refine G_iload_n F dX7_readsSum_22 rfl ?_
      refine G_iconst F (v := (-1 : Int32)) dX7_readsSum_23 (by decide) ?_
      refine G_icmp_eq F (tgt := 83) dX7_readsSum_24 (by decide) (fun c8 => ?_) (fun c8 => ?_)
      · have h := itt c8 h
        refine G_aload_n F dX7_readsSum_83 rfl ?_
        obtain ⟨v9, e_v9, h⟩ := bnd h
        obtain ⟨hc_v9, e_v9⟩ := hp_on_of e_v9
        refine G_callVv F (As := []) (st := []) (metX7_here X e_v9) hc_v9 rfl rfl (lw_V q1460 q1462 qs46 q109 q1463) hdfX7_here ⟨by omega, by decide⟩ rfl (Nat.le_of_ble_eq_true rfl) ⟨by omega, by omega⟩ dX7_readsSum_84 ?_
        refine G_bipush F (v := (93 : Int32)) dX7_readsSum_87 (by decide) ?_
        obtain ⟨p10, hp10, h⟩ := bnd h
        have K10 : ∀ (_ : Unit), Sum.inl () = p10 → G X cx 3 (Qm X cx (some (.inl rv)) m_ nx 0 0) (0) (0) m5 (nx) [some (.inr a0), some (.inl v1), none] [] 138 := by
          intro _ hq
          subst hq
          try dsimp only at h
          refine G_aload_n F dX7_readsSum_138 rfl ?_
          refine G_iload_n F dX7_readsSum_139 rfl ?_
          obtain ⟨v11, e_v11, h⟩ := bnd h
          obtain ⟨hc_v11, e_v11⟩ := hp_on_of e_v11
          refine G_callVv F (As := [.inl v1]) (st := []) (metX7_hasOpenSum X e_v11) hc_v11 rfl rfl (lw_V q1507 q1509 qs56 q109 q1510) hdfX7_hasOpenSum ⟨by omega, by decide⟩ rfl (Nat.le_of_ble_eq_true rfl) ⟨by omega, by omega⟩ dX7_readsSum_140 ?_
          refine G_if_eq F (tgt := 156) dX7_readsSum_143 (by decide) (fun c12 => ?_) (fun c12 => ?_)
          · have h := itt c12 h
            refine G_aload_n F dX7_readsSum_156 rfl ?_
            refine G_iconst F (v := (1 : Int32)) dX7_readsSum_157 (by decide) ?_
            obtain ⟨m13, e_m13, h⟩ := bnd h
            obtain ⟨hc_m13, e_m13⟩ := hp_on_of e_m13
            refine G_callV0 F (As := [.inl (1 : Int32)]) (st := []) (metX7_closesSums X e_m13) hc_m13 rfl rfl (lw_V q1499 q1501 qs54 q109 q1502) hdfX7_closesSums ⟨by omega, by decide⟩ rfl (Nat.le_of_ble_eq_true rfl) ⟨by omega, by omega⟩ dX7_readsSum_158 ?_
            refine G_iconst F (v := (1 : Int32)) dX7_readsSum_161 (by decide) ?_
            cases h
            have h := KR5 _ (hE5 _ rfl)
            cases h
            exact G_zret F rfl (Or.inr rfl) (Nat.le_refl _) (Nat.le_refl _) rfl dX7_readsSum_162
          · have h := itf c12 h
            refine G_aload_n F dX7_readsSum_146 rfl ?_
            refine G_iconst F (v := (1 : Int32)) dX7_readsSum_147 (by decide) ?_
            refine G_aload_n F dX7_readsSum_148 rfl ?_
            obtain ⟨v14, e_v14, h⟩ := bnd h
            refine G_getI F okX7 (f := 18) (by decide) q1242 rfl dX7_readsSum_149 e_v14 ?_
            obtain ⟨⟨v15, m16⟩, e_v15, h⟩ := bnd h
            obtain ⟨hc_v15, e_v15⟩ := hp_on_of e_v15
            refine G_callVv F (As := [.inl (1 : Int32), .inl v14]) (st := []) (metX7_wrongAt X e_v15) hc_v15 rfl rfl (lw_V q1464 q1466 qs47 q109 q1467) hdfX7_wrongAt ⟨by omega, by decide⟩ rfl (Nat.le_of_ble_eq_true rfl) ⟨by omega, by omega⟩ dX7_readsSum_152 ?_
            obtain ⟨z17, e_z17, h⟩ := bnd h
            have hz_ := hp_z_of e_z17
            cases h
            have h := KR5 _ (hE5 _ rfl)
            cases h
            exact G_zretz F rfl hz_ (Nat.le_refl _) (Nat.le_refl _) rfl dX7_readsSum_155
        have K10o : ∀ o, Sum.inr o = p10 → some o = some o5 := by
          intro o hq
          subst hq
          exact h
        have h := hp10
        clear hp10
        refine G_icmp_ne F (tgt := 138) dX7_readsSum_89 (by decide) (fun c18 => ?_) (fun c18 => ?_)
        · have h := itf c18 h
          have hq_ := Option.some.inj h
          exact G_sub F (L2 := [some (.inr a0), some (.inl v1), none]) ⟨rfl, ⟨rfl, trivial⟩⟩ (K10 () hq_)
        · have h := itt c18 h
          refine G_aload_n F dX7_readsSum_92 rfl ?_
          refine G_iload_n F dX7_readsSum_93 rfl ?_
          obtain ⟨v19, e_v19, h⟩ := bnd h
          obtain ⟨hc_v19, e_v19⟩ := hp_on_of e_v19
          refine G_callVv F (As := [.inl v1]) (st := []) (metX7_hasOpenSum X e_v19) hc_v19 rfl rfl (lw_V q1507 q1509 qs56 q109 q1510) hdfX7_hasOpenSum ⟨by omega, by decide⟩ rfl (Nat.le_of_ble_eq_true rfl) ⟨by omega, by omega⟩ dX7_readsSum_94 ?_
          refine G_if_eq F (tgt := 138) dX7_readsSum_97 (by decide) (fun c20 => ?_) (fun c20 => ?_)
          · have h := itt c20 h
            have hq_ := Option.some.inj h
            exact G_sub F (L2 := [some (.inr a0), some (.inl v1), none]) ⟨rfl, ⟨rfl, trivial⟩⟩ (K10 () hq_)
          · have h := itf c20 h
            refine G_aload_n F dX7_readsSum_100 rfl ?_
            refine G_iconst F (v := (1 : Int32)) dX7_readsSum_101 (by decide) ?_
            obtain ⟨m21, e_m21, h⟩ := bnd h
            obtain ⟨hc_m21, e_m21⟩ := hp_on_of e_m21
            refine G_callV0 F (As := [.inl (1 : Int32)]) (st := []) (metX7_closesSums X e_m21) hc_m21 rfl rfl (lw_V q1499 q1501 qs54 q109 q1502) hdfX7_closesSums ⟨by omega, by decide⟩ rfl (Nat.le_of_ble_eq_true rfl) ⟨by omega, by omega⟩ dX7_readsSum_102 ?_
            refine G_aload_n F dX7_readsSum_105 rfl ?_
            refine G_aload_n F dX7_readsSum_106 rfl ?_
            obtain ⟨v22, e_v22, h⟩ := bnd h
            refine G_getI F okX7 (f := 24) (by decide) q1248 rfl dX7_readsSum_107 e_v22 ?_
            refine G_iconst F (v := (1 : Int32)) dX7_readsSum_110 (by decide) ?_
            refine G_isub F dX7_readsSum_111 ?_
            obtain ⟨m23, e_m23, h⟩ := bnd h
            refine G_putV F okX7 (f := 24) (by decide) q1248 rfl rfl dX7_readsSum_112 (vfit_int _) e_m23 ?_
            refine G_aload_n F dX7_readsSum_115 rfl ?_
            refine G_aload_n F dX7_readsSum_116 rfl ?_
            obtain ⟨v24, e_v24, h⟩ := bnd h
            refine G_getI F okX7 (f := 22) (by decide) q1246 rfl dX7_readsSum_117 e_v24 ?_
            refine G_iconst F (v := (1 : Int32)) dX7_readsSum_120 (by decide) ?_
            refine G_isub F dX7_readsSum_121 ?_
            obtain ⟨m25, e_m25, h⟩ := bnd h
            refine G_putV F okX7 (f := 22) (by decide) q1246 rfl rfl dX7_readsSum_122 (vfit_int _) e_m25 ?_
            refine G_aload_n F dX7_readsSum_125 rfl ?_
            refine G_aload_n F dX7_readsSum_126 rfl ?_
            obtain ⟨v26, e_v26, h⟩ := bnd h
            refine G_getI F okX7 (f := 18) (by decide) q1242 rfl dX7_readsSum_127 e_v26 ?_
            refine G_iconst F (v := (1 : Int32)) dX7_readsSum_130 (by decide) ?_
            refine G_iadd F dX7_readsSum_131 ?_
            obtain ⟨m27, e_m27, h⟩ := bnd h
            refine G_putV F okX7 (f := 18) (by decide) q1242 rfl rfl dX7_readsSum_132 (vfit_int _) e_m27 ?_
            refine G_goto F (tgt := 163) dX7_readsSum_135 (by decide) ?_
            refine G_goto F (tgt := 14) dX7_readsSum_163 (by decide) ?_
            have hq_ := Option.some.inj h
            have h := K10o _ hq_
            cases h
            exact G_sub F (L2 := [some (.inr a0), some (.inl v1), none]) ⟨rfl, ⟨rfl, trivial⟩⟩ (hP5 _ rfl)
      · have h := itf c8 h
        refine G_aload_n F dX7_readsSum_27 rfl ?_
        refine G_iload_n F dX7_readsSum_28 rfl ?_
        refine G_iconst F (v := (4 : Int32)) dX7_readsSum_29 (by decide) ?_
        obtain ⟨p29, hp29, h⟩ := bnd h
        have K29 : ∀ (v28 : Int32), v28 = p29 → G X cx 3 (Qm X cx (some (.inl rv)) m_ nx 0 0) (0) (0) m5 (nx) [some (.inr a0), some (.inl v1), some (.inl v7)] [.inl v28, .inr a0] 38 := by
          intro v28 hq
          subst hq
          try dsimp only at h
          obtain ⟨m30, e_m30, h⟩ := bnd h
          obtain ⟨hc_m30, e_m30⟩ := hp_on_of e_m30
          refine G_callV0 F (As := [.inl v28]) (st := []) (metX7_closesSums X e_m30) hc_m30 rfl rfl (lw_V q1499 q1501 qs54 q109 q1502) hdfX7_closesSums ⟨by omega, by decide⟩ rfl (Nat.le_of_ble_eq_true rfl) ⟨by omega, by omega⟩ dX7_readsSum_38 ?_
          refine G_aload_n F dX7_readsSum_41 rfl ?_
          obtain ⟨v31, e_v31, h⟩ := bnd h
          refine G_getR F okX7 (f := 28) (by decide) q1252 rfl dX7_readsSum_42 e_v31 ?_
          refine G_aload_n F dX7_readsSum_45 rfl ?_
          obtain ⟨v32, e_v32, h⟩ := bnd h
          refine G_getI F okX7 (f := 24) (by decide) q1248 rfl dX7_readsSum_46 e_v32 ?_
          refine G_ldc F q1480 dX7_readsSum_49 ?_
          refine G_iload_n F dX7_readsSum_51 rfl ?_
          refine G_imul F dX7_readsSum_52 ?_
          obtain ⟨m33, e_m33, h⟩ := bnd h
          refine G_iast F dX7_readsSum_53 e_m33 ?_
          refine G_aload_n F dX7_readsSum_54 rfl ?_
          refine G_aload_n F dX7_readsSum_55 rfl ?_
          obtain ⟨v34, e_v34, h⟩ := bnd h
          refine G_getI F okX7 (f := 24) (by decide) q1248 rfl dX7_readsSum_56 e_v34 ?_
          refine G_iconst F (v := (1 : Int32)) dX7_readsSum_59 (by decide) ?_
          refine G_iadd F dX7_readsSum_60 ?_
          obtain ⟨m35, e_m35, h⟩ := bnd h
          refine G_putV F okX7 (f := 24) (by decide) q1248 rfl rfl dX7_readsSum_61 (vfit_int _) e_m35 ?_
          refine G_aload_n F dX7_readsSum_64 rfl ?_
          refine G_aload_n F dX7_readsSum_65 rfl ?_
          obtain ⟨v36, e_v36, h⟩ := bnd h
          refine G_getI F okX7 (f := 18) (by decide) q1242 rfl dX7_readsSum_66 e_v36 ?_
          refine G_iconst F (v := (1 : Int32)) dX7_readsSum_69 (by decide) ?_
          refine G_iadd F dX7_readsSum_70 ?_
          obtain ⟨m37, e_m37, h⟩ := bnd h
          refine G_putV F okX7 (f := 18) (by decide) q1242 rfl rfl dX7_readsSum_71 (vfit_int _) e_m37 ?_
          refine G_aload_n F dX7_readsSum_74 rfl ?_
          obtain ⟨⟨v38, m39⟩, e_v38, h⟩ := bnd h
          obtain ⟨hc_v38, e_v38⟩ := hp_on_of e_v38
          refine G_callVv F (As := []) (st := []) (metX7_readsFactor X e_v38) hc_v38 rfl rfl (lw_V q1472 q1474 qs49 q109 q1475) hdfX7_readsFactor ⟨by omega, by decide⟩ rfl (Nat.le_of_ble_eq_true rfl) ⟨by omega, by omega⟩ dX7_readsSum_75 ?_
          refine G_if_ne F (tgt := 163) dX7_readsSum_78 (by decide) (fun c40 => ?_) (fun c40 => ?_)
          · have h := itf c40 h
            refine G_goto F (tgt := 14) dX7_readsSum_163 (by decide) ?_
            cases h
            exact G_sub F (L2 := [some (.inr a0), some (.inl v1), none]) ⟨rfl, ⟨rfl, trivial⟩⟩ (hP5 _ rfl)
          · have h := itt c40 h
            refine G_iconst F (v := (0 : Int32)) dX7_readsSum_81 (by decide) ?_
            cases h
            have h := KR5 _ (hE5 _ rfl)
            cases h
            exact G_zret F rfl (Or.inl rfl) (Nat.le_refl _) (Nat.le_refl _) rfl dX7_readsSum_82
        have h := hp29
        clear hp29
        refine G_icmp_ge F (tgt := 37) dX7_readsSum_30 (by decide) (fun c41 => ?_) (fun c41 => ?_)
        · have h := itt c41 h
          refine G_iconst F (v := (0 : Int32)) dX7_readsSum_37 (by decide) ?_
          have hq_ := Option.some.inj h
          exact G_sub F (L2 := [some (.inr a0), some (.inl v1), some (.inl v7)]) ⟨rfl, ⟨rfl, ⟨rfl, trivial⟩⟩⟩ (K29 _ hq_)
        · have h := itf c41 h
          refine G_iconst F (v := (1 : Int32)) dX7_readsSum_33 (by decide) ?_
          refine G_goto F (tgt := 38) dX7_readsSum_34 (by decide) ?_
          have hq_ := Option.some.inj h
          exact G_sub F (L2 := [some (.inr a0), some (.inl v1), some (.inl v7)]) ⟨rfl, ⟨rfl, ⟨rfl, trivial⟩⟩⟩ (K29 _ hq_)
    have hI := iter_ok (fun (s : Hp) => match s with | m5 => G X cx 3 (Qm X cx (some (.inl rv)) m_ nx 0 0) (0) (0) m5 (nx) [some (.inr a0), some (.inl v1), none] [] 14) (fun q => q = r5) KB5 _ _ _ hr5 rfl
    exact G_sub F (L2 := [some (.inr a0), some (.inl v1), none]) ⟨rfl, ⟨rfl, trivial⟩⟩ hI
  · have h := itt c4 h
    refine G_iconst F (v := (0 : Int32)) dX7_readsSum_12 (by decide) ?_
    cases h
    exact G_zret F rfl (Or.inl rfl) (Nat.le_refl _) (Nat.le_refl _) rfl dX7_readsSum_13

theorem metX7_endsPiece (X : Gx) {m : Hp} {nx : Nat} {a0 : Option Nat} {m_ : Hp} (h : fX7_endsPiece m a0 = some m_) : Con X (2) yX7_endsPiece cX7_endsPiece 1 ((none : Option FieldType)) [.inr a0] m nx none m_ 0 0 := by
  refine Con.of (own := RX7) (nm := "endsPiece") (L := [some (.inr a0)]) (by decide +kernel) rfl rfl (Nat.le_of_ble_eq_true rfl) (ent_of 0 rfl) ?_
  intro cx F
  obtain ⟨r1, hr1, h⟩ := bnd h
  have KE1 : ∀ (m9 : Hp), m9 = r1 → G X cx 1 (Qm X cx none m_ nx 0 0) (0) (0) m9 (nx) [none] [] 39 := by
    intro m9 hq
    subst hq
    try dsimp only at h
    cases h
    exact G_vret F rfl (Nat.le_refl _) (Nat.le_refl _) rfl dX7_endsPiece_39
  have KB1 : ∀ s o1, fX7_endsPiece_L0 a0 s = some o1 → (∀ s', o1 = Sum.inl s' → (fun (s : Hp) => match s with | m1 => G X cx 1 (Qm X cx none m_ nx 0 0) (0) (0) m1 (nx) [some (.inr a0)] [] 0) s') → (∀ q, o1 = Sum.inr q → q = r1) → (fun (s : Hp) => match s with | m1 => G X cx 1 (Qm X cx none m_ nx 0 0) (0) (0) m1 (nx) [some (.inr a0)] [] 0) s := by
    intro s o1 h hP1 hE1
    obtain ⟨m1, hs_⟩ : ∃ x, x = s := ⟨_, rfl⟩
    subst hs_
    try dsimp only at hP1 hE1 ⊢
    refine G_aload_n F dX7_endsPiece_0 rfl ?_
    obtain ⟨v2, e_v2, h⟩ := bnd h
    obtain ⟨hc_v2, e_v2⟩ := hp_on_of e_v2
    refine G_callVv F (As := []) (st := []) (metX7_waitTop X e_v2) hc_v2 rfl rfl (lw_V q1503 q1505 qs55 q109 q1506) hdfX7_waitTop ⟨by omega, by decide⟩ rfl (Nat.le_of_ble_eq_true rfl) ⟨by omega, by omega⟩ dX7_endsPiece_1 ?_
    refine G_bipush F (v := (10 : Int32)) dX7_endsPiece_4 (by decide) ?_
    refine G_icmp_ne F (tgt := 39) dX7_endsPiece_6 (by decide) (fun c3 => ?_) (fun c3 => ?_)
    · have h := itf c3 h
      cases h
      exact G_sub F (L2 := [none]) trivial (KE1 _ (hE1 _ rfl))
    · have h := itt c3 h
      refine G_aload_n F dX7_endsPiece_9 rfl ?_
      refine G_bipush F (v := (10 : Int32)) dX7_endsPiece_10 (by decide) ?_
      refine G_iconst F (v := (0 : Int32)) dX7_endsPiece_12 (by decide) ?_
      obtain ⟨m4, e_m4, h⟩ := bnd h
      obtain ⟨hc_m4, e_m4⟩ := hp_on_of e_m4
      refine G_callV0 F (As := [.inl (10 : Int32), .inl (0 : Int32)]) (st := []) (metX7_notes X e_m4) hc_m4 rfl rfl (lw_V q1489 q1491 qs53 q109 q1492) hdfX7_notes ⟨by omega, by decide⟩ rfl (Nat.le_of_ble_eq_true rfl) ⟨by omega, by omega⟩ dX7_endsPiece_13 ?_
      refine G_aload_n F dX7_endsPiece_16 rfl ?_
      refine G_aload_n F dX7_endsPiece_17 rfl ?_
      obtain ⟨v5, e_v5, h⟩ := bnd h
      refine G_getI F okX7 (f := 24) (by decide) q1248 rfl dX7_endsPiece_18 e_v5 ?_
      refine G_iconst F (v := (1 : Int32)) dX7_endsPiece_21 (by decide) ?_
      refine G_isub F dX7_endsPiece_22 ?_
      obtain ⟨m6, e_m6, h⟩ := bnd h
      refine G_putV F okX7 (f := 24) (by decide) q1248 rfl rfl dX7_endsPiece_23 (vfit_int _) e_m6 ?_
      refine G_aload_n F dX7_endsPiece_26 rfl ?_
      refine G_aload_n F dX7_endsPiece_27 rfl ?_
      obtain ⟨v7, e_v7, h⟩ := bnd h
      refine G_getI F okX7 (f := 22) (by decide) q1246 rfl dX7_endsPiece_28 e_v7 ?_
      refine G_iconst F (v := (1 : Int32)) dX7_endsPiece_31 (by decide) ?_
      refine G_isub F dX7_endsPiece_32 ?_
      obtain ⟨m8, e_m8, h⟩ := bnd h
      refine G_putV F okX7 (f := 22) (by decide) q1246 rfl rfl dX7_endsPiece_33 (vfit_int _) e_m8 ?_
      refine G_goto F (tgt := 0) dX7_endsPiece_36 (by decide) ?_
      cases h
      exact G_sub F (L2 := [some (.inr a0)]) ⟨rfl, trivial⟩ (hP1 _ rfl)
  have hI := iter_ok (fun (s : Hp) => match s with | m1 => G X cx 1 (Qm X cx none m_ nx 0 0) (0) (0) m1 (nx) [some (.inr a0)] [] 0) (fun q => q = r1) KB1 _ _ _ hr1 rfl
  exact G_sub F (L2 := [some (.inr a0)]) ⟨rfl, trivial⟩ hI

theorem metX7_lands (X : Gx) {m : Hp} {nx : Nat} {a0 : Option Nat} {a1 : Int32} {m_ : Hp} (h : fX7_lands m a0 a1 = some m_) : Con X (2) yX7_lands cX7_lands 3 ((none : Option FieldType)) [.inr a0, .inl a1] m nx none m_ 0 0 := by
  refine Con.of (own := RX7) (nm := "lands") (L := [some (.inr a0), some (.inl a1), none]) (by decide +kernel) rfl rfl (Nat.le_of_ble_eq_true rfl) (ent_of 1 rfl) ?_
  intro cx F
  obtain ⟨r1, hr1, h⟩ := bnd h
  have KE1 : ∀ (m18 : Hp), m18 = r1 → G X cx 3 (Qm X cx none m_ nx 0 0) (0) (0) m18 (nx) [none, none, none] [] 73 := by
    intro m18 hq
    subst hq
    try dsimp only at h
    cases h
    exact G_vret F rfl (Nat.le_refl _) (Nat.le_refl _) rfl dX7_lands_73
  have KB1 : ∀ s o1, fX7_lands_L0 a0 a1 s = some o1 → (∀ s', o1 = Sum.inl s' → (fun (s : Hp) => match s with | m1 => G X cx 3 (Qm X cx none m_ nx 0 0) (0) (0) m1 (nx) [some (.inr a0), some (.inl a1), none] [] 0) s') → (∀ q, o1 = Sum.inr q → q = r1) → (fun (s : Hp) => match s with | m1 => G X cx 3 (Qm X cx none m_ nx 0 0) (0) (0) m1 (nx) [some (.inr a0), some (.inl a1), none] [] 0) s := by
    intro s o1 h hP1 hE1
    obtain ⟨m1, hs_⟩ : ∃ x, x = s := ⟨_, rfl⟩
    subst hs_
    try dsimp only at hP1 hE1 ⊢
    refine G_aload_n F dX7_lands_0 rfl ?_
    obtain ⟨v2, e_v2, h⟩ := bnd h
    obtain ⟨hc_v2, e_v2⟩ := hp_on_of e_v2
    refine G_callVv F (As := []) (st := []) (metX7_waitTop X e_v2) hc_v2 rfl rfl (lw_V q1503 q1505 qs55 q109 q1506) hdfX7_waitTop ⟨by omega, by decide⟩ rfl (Nat.le_of_ble_eq_true rfl) ⟨by omega, by omega⟩ dX7_lands_1 ?_
    refine G_bipush F (v := (11 : Int32)) dX7_lands_4 (by decide) ?_
    obtain ⟨p3, hp3, h⟩ := bnd h
    have K3 : ∀ (_ : Unit), Sum.inl () = p3 → G X cx 3 (Qm X cx none m_ nx 0 0) (0) (0) m1 (nx) [some (.inr a0), some (.inl a1), none] [] 22 := by
      intro _ hq
      subst hq
      try dsimp only at h
      refine G_aload_n F dX7_lands_22 rfl ?_
      obtain ⟨v4, e_v4, h⟩ := bnd h
      refine G_getR F okX7 (f := 28) (by decide) q1252 rfl dX7_lands_23 e_v4 ?_
      refine G_aload_n F dX7_lands_26 rfl ?_
      obtain ⟨v5, e_v5, h⟩ := bnd h
      refine G_getI F okX7 (f := 24) (by decide) q1248 rfl dX7_lands_27 e_v5 ?_
      refine G_iconst F (v := (1 : Int32)) dX7_lands_30 (by decide) ?_
      refine G_isub F dX7_lands_31 ?_
      obtain ⟨v6, e_v6, h⟩ := bnd h
      refine G_iald F dX7_lands_32 e_v6 ?_
      refine G_ldc F q1480 dX7_lands_33 ?_
      refine G_irem F (by decide) dX7_lands_35 ?_
      refine G_istore_n F (L2 := [some (.inr a0), some (.inl a1), some (.inl (jrem v6 (1048576 : Int32)))]) dX7_lands_36 (by decide) rfl ?_
      refine G_aload_n F dX7_lands_37 rfl ?_
      obtain ⟨v7, e_v7, h⟩ := bnd h
      refine G_getR F okX7 (f := 27) (by decide) q1251 rfl dX7_lands_38 e_v7 ?_
      refine G_iload_n F dX7_lands_41 rfl ?_
      refine G_ldc F q1480 dX7_lands_42 ?_
      refine G_aload_n F dX7_lands_44 rfl ?_
      obtain ⟨v8, e_v8, h⟩ := bnd h
      refine G_getR F okX7 (f := 27) (by decide) q1251 rfl dX7_lands_45 e_v8 ?_
      refine G_iload_n F dX7_lands_48 rfl ?_
      obtain ⟨v9, e_v9, h⟩ := bnd h
      refine G_iald F dX7_lands_49 e_v9 ?_
      refine G_ldc F q1480 dX7_lands_50 ?_
      refine G_idiv F (by decide) dX7_lands_52 ?_
      refine G_imul F dX7_lands_53 ?_
      refine G_aload_n F dX7_lands_54 rfl ?_
      obtain ⟨v10, e_v10, h⟩ := bnd h
      refine G_getI F okX7 (f := 23) (by decide) q1247 rfl dX7_lands_55 e_v10 ?_
      refine G_iadd F dX7_lands_58 ?_
      obtain ⟨m11, e_m11, h⟩ := bnd h
      refine G_iast F dX7_lands_59 e_m11 ?_
      refine G_aload_n F dX7_lands_60 rfl ?_
      refine G_aload_n F dX7_lands_61 rfl ?_
      obtain ⟨v12, e_v12, h⟩ := bnd h
      refine G_getI F okX7 (f := 24) (by decide) q1248 rfl dX7_lands_62 e_v12 ?_
      refine G_iconst F (v := (1 : Int32)) dX7_lands_65 (by decide) ?_
      refine G_isub F dX7_lands_66 ?_
      obtain ⟨m13, e_m13, h⟩ := bnd h
      refine G_putV F okX7 (f := 24) (by decide) q1248 rfl rfl dX7_lands_67 (vfit_int _) e_m13 ?_
      refine G_goto F (tgt := 0) dX7_lands_70 (by decide) ?_
      cases h
      exact G_sub F (L2 := [some (.inr a0), some (.inl a1), none]) ⟨rfl, ⟨rfl, trivial⟩⟩ (hP1 _ rfl)
    have K3o : ∀ o, Sum.inr o = p3 → some o = some o1 := by
      intro o hq
      subst hq
      exact h
    have h := hp3
    clear hp3
    refine G_icmp_eq F (tgt := 22) dX7_lands_6 (by decide) (fun c14 => ?_) (fun c14 => ?_)
    · have h := itt c14 h
      have hq_ := Option.some.inj h
      exact G_sub F (L2 := [some (.inr a0), some (.inl a1), none]) ⟨rfl, ⟨rfl, trivial⟩⟩ (K3 () hq_)
    · have h := itf c14 h
      refine G_iload_n F dX7_lands_9 rfl ?_
      refine G_if_eq F (tgt := 73) dX7_lands_10 (by decide) (fun c15 => ?_) (fun c15 => ?_)
      · have h := itt c15 h
        have hq_ := Option.some.inj h
        have h := K3o _ hq_
        cases h
        exact G_sub F (L2 := [none, none, none]) trivial (KE1 _ (hE1 _ rfl))
      · have h := itf c15 h
        refine G_aload_n F dX7_lands_13 rfl ?_
        obtain ⟨v16, e_v16, h⟩ := bnd h
        obtain ⟨hc_v16, e_v16⟩ := hp_on_of e_v16
        refine G_callVv F (As := []) (st := []) (metX7_waitTop X e_v16) hc_v16 rfl rfl (lw_V q1503 q1505 qs55 q109 q1506) hdfX7_waitTop ⟨by omega, by decide⟩ rfl (Nat.le_of_ble_eq_true rfl) ⟨by omega, by omega⟩ dX7_lands_14 ?_
        refine G_bipush F (v := (12 : Int32)) dX7_lands_17 (by decide) ?_
        refine G_icmp_ne F (tgt := 73) dX7_lands_19 (by decide) (fun c17 => ?_) (fun c17 => ?_)
        · have h := itf c17 h
          have hq_ := Option.some.inj h
          have h := K3o _ hq_
          cases h
          exact G_sub F (L2 := [none, none, none]) trivial (KE1 _ (hE1 _ rfl))
        · have h := itt c17 h
          have hq_ := Option.some.inj h
          exact G_sub F (L2 := [some (.inr a0), some (.inl a1), none]) ⟨rfl, ⟨rfl, trivial⟩⟩ (K3 () hq_)
  have hI := iter_ok (fun (s : Hp) => match s with | m1 => G X cx 3 (Qm X cx none m_ nx 0 0) (0) (0) m1 (nx) [some (.inr a0), some (.inl a1), none] [] 0) (fun q => q = r1) KB1 _ _ _ hr1 rfl
  exact G_sub F (L2 := [some (.inr a0), some (.inl a1), none]) ⟨rfl, ⟨rfl, trivial⟩⟩ hI

theorem metX7_jumps (X : Gx) {m : Hp} {nx : Nat} {a0 : Option Nat} {a1 : Int32} {m_ : Hp} (h : fX7_jumps m a0 a1 = some m_) : Con X (2) yX7_jumps cX7_jumps 2 ((none : Option FieldType)) [.inr a0, .inl a1] m nx none m_ 0 0 := by
  refine Con.of (own := RX7) (nm := "jumps") (L := [some (.inr a0), some (.inl a1)]) (by decide +kernel) rfl rfl (Nat.le_of_ble_eq_true rfl) (ent_of 0 rfl) ?_
  intro cx F
  refine G_aload_n F dX7_jumps_0 rfl ?_
  obtain ⟨v1, e_v1, h⟩ := bnd h
  refine G_getR F okX7 (f := 28) (by decide) q1252 rfl dX7_jumps_1 e_v1 ?_
  refine G_aload_n F dX7_jumps_4 rfl ?_
  obtain ⟨v2, e_v2, h⟩ := bnd h
  refine G_getI F okX7 (f := 24) (by decide) q1248 rfl dX7_jumps_5 e_v2 ?_
  refine G_ldc F q1480 dX7_jumps_8 ?_
  refine G_iload_n F dX7_jumps_10 rfl ?_
  refine G_imul F dX7_jumps_11 ?_
  refine G_aload_n F dX7_jumps_12 rfl ?_
  obtain ⟨v3, e_v3, h⟩ := bnd h
  refine G_getI F okX7 (f := 23) (by decide) q1247 rfl dX7_jumps_13 e_v3 ?_
  refine G_iadd F dX7_jumps_16 ?_
  obtain ⟨m4, e_m4, h⟩ := bnd h
  refine G_iast F dX7_jumps_17 e_m4 ?_
  refine G_aload_n F dX7_jumps_18 rfl ?_
  refine G_aload_n F dX7_jumps_19 rfl ?_
  obtain ⟨v5, e_v5, h⟩ := bnd h
  refine G_getI F okX7 (f := 24) (by decide) q1248 rfl dX7_jumps_20 e_v5 ?_
  refine G_iconst F (v := (1 : Int32)) dX7_jumps_23 (by decide) ?_
  refine G_iadd F dX7_jumps_24 ?_
  obtain ⟨m6, e_m6, h⟩ := bnd h
  refine G_putV F okX7 (f := 24) (by decide) q1248 rfl rfl dX7_jumps_25 (vfit_int _) e_m6 ?_
  refine G_aload_n F dX7_jumps_28 rfl ?_
  refine G_iload_n F dX7_jumps_29 rfl ?_
  refine G_iconst F (v := (0 : Int32)) dX7_jumps_30 (by decide) ?_
  obtain ⟨m7, e_m7, h⟩ := bnd h
  obtain ⟨hc_m7, e_m7⟩ := hp_on_of e_m7
  refine G_callV0 F (As := [.inl a1, .inl (0 : Int32)]) (st := []) (metX7_notes X e_m7) hc_m7 rfl rfl (lw_V q1489 q1491 qs53 q109 q1492) hdfX7_notes ⟨by omega, by decide⟩ rfl (Nat.le_of_ble_eq_true rfl) ⟨by omega, by omega⟩ dX7_jumps_31 ?_
  refine G_aload_n F dX7_jumps_34 rfl ?_
  refine G_aload_n F dX7_jumps_35 rfl ?_
  obtain ⟨v8, e_v8, h⟩ := bnd h
  refine G_getI F okX7 (f := 18) (by decide) q1242 rfl dX7_jumps_36 e_v8 ?_
  refine G_iconst F (v := (1 : Int32)) dX7_jumps_39 (by decide) ?_
  refine G_iadd F dX7_jumps_40 ?_
  obtain ⟨m9, e_m9, h⟩ := bnd h
  refine G_putV F okX7 (f := 18) (by decide) q1242 rfl rfl dX7_jumps_41 (vfit_int _) e_m9 ?_
  cases h
  exact G_vret F rfl (Nat.le_refl _) (Nat.le_refl _) rfl dX7_jumps_44

theorem metX7_readsCompared (X : Gx) {m : Hp} {nx : Nat} {a0 : Option Nat} {rv : Int32} {m_ : Hp} (h : fX7_readsCompared m a0 = some (rv, m_)) : Con X (6) yX7_readsCompared cX7_readsCompared 2 ((Option.some FieldType.boolean)) [.inr a0] m nx (some (.inl rv)) m_ 0 0 := by
  refine Con.of (own := RX7) (nm := "readsCompared") (L := [some (.inr a0), none]) (by decide +kernel) rfl rfl (Nat.le_of_ble_eq_true rfl) (ent_of 1 rfl) ?_
  intro cx F
  refine G_aload_n F dX7_readsCompared_0 rfl ?_
  obtain ⟨⟨v1, m2⟩, e_v1, h⟩ := bnd h
  obtain ⟨hc_v1, e_v1⟩ := hp_on_of e_v1
  refine G_callVv F (As := []) (st := []) (metX7_readsSum X e_v1) hc_v1 rfl rfl (lw_V q1468 q1470 qs48 q109 q1471) hdfX7_readsSum ⟨by omega, by decide⟩ rfl (Nat.le_of_ble_eq_true rfl) ⟨by omega, by omega⟩ dX7_readsCompared_1 ?_
  refine G_if_ne F (tgt := 9) dX7_readsCompared_4 (by decide) (fun c3 => ?_) (fun c3 => ?_)
  · have h := itf c3 h
    refine G_aload_n F dX7_readsCompared_9 rfl ?_
    obtain ⟨v4, e_v4, h⟩ := bnd h
    obtain ⟨hc_v4, e_v4⟩ := hp_on_of e_v4
    refine G_callVv F (As := []) (st := []) (metX7_here X e_v4) hc_v4 rfl rfl (lw_V q1460 q1462 qs46 q109 q1463) hdfX7_here ⟨by omega, by decide⟩ rfl (Nat.le_of_ble_eq_true rfl) ⟨by omega, by omega⟩ dX7_readsCompared_10 ?_
    refine G_bipush F (v := (60 : Int32)) dX7_readsCompared_13 (by decide) ?_
    obtain ⟨p6, hp6, h⟩ := bnd h
    have K6 : ∀ (v5 : Int32), v5 = p6 → G X cx 2 (Qm X cx (some (.inl rv)) m_ nx 0 0) (0) (0) m2 (nx) [some (.inr a0), none] [.inl v5] 52 := by
      intro v5 hq
      subst hq
      try dsimp only at h
      refine G_istore_n F (L2 := [some (.inr a0), some (.inl v5)]) dX7_readsCompared_52 (by decide) rfl ?_
      refine G_iload_n F dX7_readsCompared_53 rfl ?_
      refine G_iconst F (v := (-1 : Int32)) dX7_readsCompared_54 (by decide) ?_
      refine G_icmp_ne F (tgt := 68) dX7_readsCompared_55 (by decide) (fun c7 => ?_) (fun c7 => ?_)
      · have h := itf c7 h
        refine G_aload_n F dX7_readsCompared_68 rfl ?_
        refine G_aload_n F dX7_readsCompared_69 rfl ?_
        obtain ⟨v8, e_v8, h⟩ := bnd h
        refine G_getI F okX7 (f := 18) (by decide) q1242 rfl dX7_readsCompared_70 e_v8 ?_
        refine G_iconst F (v := (1 : Int32)) dX7_readsCompared_73 (by decide) ?_
        refine G_iadd F dX7_readsCompared_74 ?_
        obtain ⟨m9, e_m9, h⟩ := bnd h
        refine G_putV F okX7 (f := 18) (by decide) q1242 rfl rfl dX7_readsCompared_75 (vfit_int _) e_m9 ?_
        refine G_aload_n F dX7_readsCompared_78 rfl ?_
        obtain ⟨⟨v10, m11⟩, e_v10, h⟩ := bnd h
        obtain ⟨hc_v10, e_v10⟩ := hp_on_of e_v10
        refine G_callVv F (As := []) (st := []) (metX7_readsSum X e_v10) hc_v10 rfl rfl (lw_V q1468 q1470 qs48 q109 q1471) hdfX7_readsSum ⟨by omega, by decide⟩ rfl (Nat.le_of_ble_eq_true rfl) ⟨by omega, by omega⟩ dX7_readsCompared_79 ?_
        refine G_if_ne F (tgt := 87) dX7_readsCompared_82 (by decide) (fun c12 => ?_) (fun c12 => ?_)
        · have h := itf c12 h
          refine G_aload_n F dX7_readsCompared_87 rfl ?_
          refine G_iload_n F dX7_readsCompared_88 rfl ?_
          refine G_iconst F (v := (0 : Int32)) dX7_readsCompared_89 (by decide) ?_
          obtain ⟨m13, e_m13, h⟩ := bnd h
          obtain ⟨hc_m13, e_m13⟩ := hp_on_of e_m13
          refine G_callV0 F (As := [.inl v5, .inl (0 : Int32)]) (st := []) (metX7_notes X e_m13) hc_m13 rfl rfl (lw_V q1489 q1491 qs53 q109 q1492) hdfX7_notes ⟨by omega, by decide⟩ rfl (Nat.le_of_ble_eq_true rfl) ⟨by omega, by omega⟩ dX7_readsCompared_90 ?_
          refine G_aload_n F dX7_readsCompared_93 rfl ?_
          obtain ⟨m14, e_m14, h⟩ := bnd h
          obtain ⟨hc_m14, e_m14⟩ := hp_on_of e_m14
          refine G_callV0 F (As := []) (st := []) (metX7_endsPiece X e_m14) hc_m14 rfl rfl (lw_V q1519 q1521 qs59 q109 q1522) hdfX7_endsPiece ⟨by omega, by decide⟩ rfl (Nat.le_of_ble_eq_true rfl) ⟨by omega, by omega⟩ dX7_readsCompared_94 ?_
          refine G_iconst F (v := (1 : Int32)) dX7_readsCompared_97 (by decide) ?_
          cases h
          exact G_zret F rfl (Or.inr rfl) (Nat.le_refl _) (Nat.le_refl _) rfl dX7_readsCompared_98
        · have h := itt c12 h
          refine G_iconst F (v := (0 : Int32)) dX7_readsCompared_85 (by decide) ?_
          cases h
          exact G_zret F rfl (Or.inl rfl) (Nat.le_refl _) (Nat.le_refl _) rfl dX7_readsCompared_86
      · have h := itt c7 h
        refine G_aload_n F dX7_readsCompared_58 rfl ?_
        refine G_iconst F (v := (1 : Int32)) dX7_readsCompared_59 (by decide) ?_
        refine G_aload_n F dX7_readsCompared_60 rfl ?_
        obtain ⟨v15, e_v15, h⟩ := bnd h
        refine G_getI F okX7 (f := 18) (by decide) q1242 rfl dX7_readsCompared_61 e_v15 ?_
        obtain ⟨⟨v16, m17⟩, e_v16, h⟩ := bnd h
        obtain ⟨hc_v16, e_v16⟩ := hp_on_of e_v16
        refine G_callVv F (As := [.inl (1 : Int32), .inl v15]) (st := []) (metX7_wrongAt X e_v16) hc_v16 rfl rfl (lw_V q1464 q1466 qs47 q109 q1467) hdfX7_wrongAt ⟨by omega, by decide⟩ rfl (Nat.le_of_ble_eq_true rfl) ⟨by omega, by omega⟩ dX7_readsCompared_64 ?_
        obtain ⟨z18, e_z18, h⟩ := bnd h
        have hz_ := hp_z_of e_z18
        cases h
        exact G_zretz F rfl hz_ (Nat.le_refl _) (Nat.le_refl _) rfl dX7_readsCompared_67
    have h := hp6
    clear hp6
    refine G_icmp_ne F (tgt := 23) dX7_readsCompared_15 (by decide) (fun c19 => ?_) (fun c19 => ?_)
    · have h := itf c19 h
      refine G_aload_n F dX7_readsCompared_23 rfl ?_
      obtain ⟨v20, e_v20, h⟩ := bnd h
      obtain ⟨hc_v20, e_v20⟩ := hp_on_of e_v20
      refine G_callVv F (As := []) (st := []) (metX7_here X e_v20) hc_v20 rfl rfl (lw_V q1460 q1462 qs46 q109 q1463) hdfX7_here ⟨by omega, by decide⟩ rfl (Nat.le_of_ble_eq_true rfl) ⟨by omega, by omega⟩ dX7_readsCompared_24 ?_
      refine G_bipush F (v := (62 : Int32)) dX7_readsCompared_27 (by decide) ?_
      refine G_icmp_ne F (tgt := 37) dX7_readsCompared_29 (by decide) (fun c21 => ?_) (fun c21 => ?_)
      · have h := itf c21 h
        refine G_aload_n F dX7_readsCompared_37 rfl ?_
        obtain ⟨v22, e_v22, h⟩ := bnd h
        obtain ⟨hc_v22, e_v22⟩ := hp_on_of e_v22
        refine G_callVv F (As := []) (st := []) (metX7_here X e_v22) hc_v22 rfl rfl (lw_V q1460 q1462 qs46 q109 q1463) hdfX7_here ⟨by omega, by decide⟩ rfl (Nat.le_of_ble_eq_true rfl) ⟨by omega, by omega⟩ dX7_readsCompared_38 ?_
        refine G_bipush F (v := (61 : Int32)) dX7_readsCompared_41 (by decide) ?_
        refine G_icmp_ne F (tgt := 51) dX7_readsCompared_43 (by decide) (fun c23 => ?_) (fun c23 => ?_)
        · have h := itf c23 h
          refine G_iconst F (v := (-1 : Int32)) dX7_readsCompared_51 (by decide) ?_
          have hq_ := Option.some.inj h
          exact G_sub F (L2 := [some (.inr a0), none]) ⟨rfl, trivial⟩ (K6 _ hq_)
        · have h := itt c23 h
          refine G_bipush F (v := (9 : Int32)) dX7_readsCompared_46 (by decide) ?_
          refine G_goto F (tgt := 52) dX7_readsCompared_48 (by decide) ?_
          have hq_ := Option.some.inj h
          exact G_sub F (L2 := [some (.inr a0), none]) ⟨rfl, trivial⟩ (K6 _ hq_)
      · have h := itt c21 h
        refine G_bipush F (v := (8 : Int32)) dX7_readsCompared_32 (by decide) ?_
        refine G_goto F (tgt := 52) dX7_readsCompared_34 (by decide) ?_
        have hq_ := Option.some.inj h
        exact G_sub F (L2 := [some (.inr a0), none]) ⟨rfl, trivial⟩ (K6 _ hq_)
    · have h := itt c19 h
      refine G_bipush F (v := (7 : Int32)) dX7_readsCompared_18 (by decide) ?_
      refine G_goto F (tgt := 52) dX7_readsCompared_20 (by decide) ?_
      have hq_ := Option.some.inj h
      exact G_sub F (L2 := [some (.inr a0), none]) ⟨rfl, trivial⟩ (K6 _ hq_)
  · have h := itt c3 h
    refine G_iconst F (v := (0 : Int32)) dX7_readsCompared_7 (by decide) ?_
    cases h
    exact G_zret F rfl (Or.inl rfl) (Nat.le_refl _) (Nat.le_refl _) rfl dX7_readsCompared_8

theorem metX7_readsCondition (X : Gx) {m : Hp} {nx : Nat} {a0 : Option Nat} {rv : Int32} {m_ : Hp} (h : fX7_readsCondition m a0 = some (rv, m_)) : Con X (7) yX7_readsCondition cX7_readsCondition 1 ((Option.some FieldType.boolean)) [.inr a0] m nx (some (.inl rv)) m_ 0 0 := by
  refine Con.of (own := RX7) (nm := "readsCondition") (L := [some (.inr a0)]) (by decide +kernel) rfl rfl (Nat.le_of_ble_eq_true rfl) (ent_of 0 rfl) ?_
  intro cx F
  refine G_aload_n F dX7_readsCondition_0 rfl ?_
  obtain ⟨v1, e_v1, h⟩ := bnd h
  obtain ⟨hc_v1, e_v1⟩ := hp_on_of e_v1
  refine G_callVv F (As := []) (st := []) (metX7_here X e_v1) hc_v1 rfl rfl (lw_V q1460 q1462 qs46 q109 q1463) hdfX7_here ⟨by omega, by decide⟩ rfl (Nat.le_of_ble_eq_true rfl) ⟨by omega, by omega⟩ dX7_readsCondition_1 ?_
  refine G_bipush F (v := (40 : Int32)) dX7_readsCondition_4 (by decide) ?_
  refine G_icmp_eq F (tgt := 19) dX7_readsCondition_6 (by decide) (fun c2 => ?_) (fun c2 => ?_)
  · have h := itt c2 h
    refine G_aload_n F dX7_readsCondition_19 rfl ?_
    refine G_iconst F (v := (0 : Int32)) dX7_readsCondition_20 (by decide) ?_
    obtain ⟨m3, e_m3, h⟩ := bnd h
    refine G_putV F okX7 (f := 22) (by decide) q1246 rfl rfl dX7_readsCondition_21 (vfit_int _) e_m3 ?_
    refine G_aload_n F dX7_readsCondition_24 rfl ?_
    refine G_iconst F (v := (0 : Int32)) dX7_readsCondition_25 (by decide) ?_
    obtain ⟨m4, e_m4, h⟩ := bnd h
    refine G_putV F okX7 (f := 24) (by decide) q1248 rfl rfl dX7_readsCondition_26 (vfit_int _) e_m4 ?_
    refine G_aload_n F dX7_readsCondition_29 rfl ?_
    refine G_bipush F (v := (13 : Int32)) dX7_readsCondition_30 (by decide) ?_
    obtain ⟨⟨v5, m6⟩, e_v5, h⟩ := bnd h
    obtain ⟨hc_v5, e_v5⟩ := hp_on_of e_v5
    refine G_callVv F (As := [.inl (13 : Int32)]) (st := []) (metX7_opens X e_v5) hc_v5 rfl rfl (lw_V q1476 q1478 qs50 q109 q1479) hdfX7_opens ⟨by omega, by decide⟩ rfl (Nat.le_of_ble_eq_true rfl) ⟨by omega, by omega⟩ dX7_readsCondition_32 ?_
    refine G_if_ne F (tgt := 40) dX7_readsCondition_35 (by decide) (fun c7 => ?_) (fun c7 => ?_)
    · have h := itf c7 h
      obtain ⟨r8, hr8, h⟩ := bnd h
      have KR8 : ∀ q, q = r8 → some q = some (rv, m_) := by
        intro q hq
        subst hq
        exact h
      have KB8 : ∀ s o8, fX7_readsCondition_L40 a0 s = some o8 → (∀ s', o8 = Sum.inl s' → (fun (s : Hp) => match s with | m8 => G X cx 1 (Qm X cx (some (.inl rv)) m_ nx 0 0) (0) (0) m8 (nx) [some (.inr a0)] [] 40) s') → (∀ q, o8 = Sum.inr q → q = r8) → (fun (s : Hp) => match s with | m8 => G X cx 1 (Qm X cx (some (.inl rv)) m_ nx 0 0) (0) (0) m8 (nx) [some (.inr a0)] [] 40) s := by
        intro s o8 h hP8 hE8
        obtain ⟨m8, hs_⟩ : ∃ x, x = s := ⟨_, rfl⟩
        subst hs_
        try dsimp only at hP8 hE8 ⊢
        refine G_aload_n F dX7_readsCondition_40 rfl ?_
        obtain ⟨v9, e_v9, h⟩ := bnd h
        obtain ⟨hc_v9, e_v9⟩ := hp_on_of e_v9
        refine G_callVv F (As := []) (st := []) (metX7_here X e_v9) hc_v9 rfl rfl (lw_V q1460 q1462 qs46 q109 q1463) hdfX7_here ⟨by omega, by decide⟩ rfl (Nat.le_of_ble_eq_true rfl) ⟨by omega, by omega⟩ dX7_readsCondition_41 ?_
        refine G_bipush F (v := (33 : Int32)) dX7_readsCondition_44 (by decide) ?_
        obtain ⟨p10, hp10, h⟩ := bnd h
        have K10 : ∀ (_ : Unit), Sum.inl () = p10 → G X cx 1 (Qm X cx (some (.inl rv)) m_ nx 0 0) (0) (0) m8 (nx) [some (.inr a0)] [] 58 := by
          intro _ hq
          subst hq
          try dsimp only at h
          refine G_aload_n F dX7_readsCondition_58 rfl ?_
          refine G_aload_n F dX7_readsCondition_59 rfl ?_
          obtain ⟨v11, e_v11, h⟩ := bnd h
          obtain ⟨hc_v11, e_v11⟩ := hp_on_of e_v11
          refine G_callVv F (As := []) (st := [.inr a0]) (metX7_here X e_v11) hc_v11 rfl rfl (lw_V q1460 q1462 qs46 q109 q1463) hdfX7_here ⟨by omega, by decide⟩ rfl (Nat.le_of_ble_eq_true rfl) ⟨by omega, by omega⟩ dX7_readsCondition_60 ?_
          refine G_bipush F (v := (33 : Int32)) dX7_readsCondition_63 (by decide) ?_
          refine G_icmp_ne F (tgt := 73) dX7_readsCondition_65 (by decide) (fun c12 => ?_) (fun c12 => ?_)
          · have h := itf c12 h
            refine G_bipush F (v := (13 : Int32)) dX7_readsCondition_73 (by decide) ?_
            obtain ⟨⟨v13, m14⟩, e_v13, h⟩ := bnd h
            obtain ⟨hc_v13, e_v13⟩ := hp_on_of e_v13
            refine G_callVv F (As := [.inl (13 : Int32)]) (st := []) (metX7_opens X e_v13) hc_v13 rfl rfl (lw_V q1476 q1478 qs50 q109 q1479) hdfX7_opens ⟨by omega, by decide⟩ rfl (Nat.le_of_ble_eq_true rfl) ⟨by omega, by omega⟩ dX7_readsCondition_75 ?_
            refine G_if_ne F (tgt := 40) dX7_readsCondition_78 (by decide) (fun c15 => ?_) (fun c15 => ?_)
            · have h := itf c15 h
              cases h
              exact G_sub F (L2 := [some (.inr a0)]) ⟨rfl, trivial⟩ (hP8 _ rfl)
            · have h := itt c15 h
              refine G_iconst F (v := (0 : Int32)) dX7_readsCondition_81 (by decide) ?_
              cases h
              have h := KR8 _ (hE8 _ rfl)
              cases h
              exact G_zret F rfl (Or.inl rfl) (Nat.le_refl _) (Nat.le_refl _) rfl dX7_readsCondition_82
          · have h := itt c12 h
            refine G_bipush F (v := (10 : Int32)) dX7_readsCondition_68 (by decide) ?_
            refine G_goto F (tgt := 75) dX7_readsCondition_70 (by decide) ?_
            obtain ⟨⟨v16, m17⟩, e_v16, h⟩ := bnd h
            obtain ⟨hc_v16, e_v16⟩ := hp_on_of e_v16
            refine G_callVv F (As := [.inl (10 : Int32)]) (st := []) (metX7_opens X e_v16) hc_v16 rfl rfl (lw_V q1476 q1478 qs50 q109 q1479) hdfX7_opens ⟨by omega, by decide⟩ rfl (Nat.le_of_ble_eq_true rfl) ⟨by omega, by omega⟩ dX7_readsCondition_75 ?_
            refine G_if_ne F (tgt := 40) dX7_readsCondition_78 (by decide) (fun c18 => ?_) (fun c18 => ?_)
            · have h := itf c18 h
              cases h
              exact G_sub F (L2 := [some (.inr a0)]) ⟨rfl, trivial⟩ (hP8 _ rfl)
            · have h := itt c18 h
              refine G_iconst F (v := (0 : Int32)) dX7_readsCondition_81 (by decide) ?_
              cases h
              have h := KR8 _ (hE8 _ rfl)
              cases h
              exact G_zret F rfl (Or.inl rfl) (Nat.le_refl _) (Nat.le_refl _) rfl dX7_readsCondition_82
        have K10o : ∀ o, Sum.inr o = p10 → some o = some o8 := by
          intro o hq
          subst hq
          exact h
        have h := hp10
        clear hp10
        refine G_icmp_eq F (tgt := 58) dX7_readsCondition_46 (by decide) (fun c19 => ?_) (fun c19 => ?_)
        · have h := itt c19 h
          have hq_ := Option.some.inj h
          exact G_sub F (L2 := [some (.inr a0)]) ⟨rfl, trivial⟩ (K10 () hq_)
        · have h := itf c19 h
          refine G_aload_n F dX7_readsCondition_49 rfl ?_
          obtain ⟨v20, e_v20, h⟩ := bnd h
          obtain ⟨hc_v20, e_v20⟩ := hp_on_of e_v20
          refine G_callVv F (As := []) (st := []) (metX7_here X e_v20) hc_v20 rfl rfl (lw_V q1460 q1462 qs46 q109 q1463) hdfX7_here ⟨by omega, by decide⟩ rfl (Nat.le_of_ble_eq_true rfl) ⟨by omega, by omega⟩ dX7_readsCondition_50 ?_
          refine G_bipush F (v := (40 : Int32)) dX7_readsCondition_53 (by decide) ?_
          refine G_icmp_ne F (tgt := 83) dX7_readsCondition_55 (by decide) (fun c21 => ?_) (fun c21 => ?_)
          · have h := itf c21 h
            refine G_aload_n F dX7_readsCondition_83 rfl ?_
            obtain ⟨⟨v22, m23⟩, e_v22, h⟩ := bnd h
            obtain ⟨hc_v22, e_v22⟩ := hp_on_of e_v22
            refine G_callVv F (As := []) (st := []) (metX7_readsCompared X e_v22) hc_v22 rfl rfl (lw_V q1515 q1517 qs58 q109 q1518) hdfX7_readsCompared ⟨by omega, by decide⟩ rfl (Nat.le_of_ble_eq_true rfl) ⟨by omega, by omega⟩ dX7_readsCondition_84 ?_
            refine G_if_ne F (tgt := 92) dX7_readsCondition_87 (by decide) (fun c24 => ?_) (fun c24 => ?_)
            · have h := itf c24 h
              obtain ⟨r25, hr25, h⟩ := bnd h
              have KE25 : ∀ (m38 : Hp), Sum.inl m38 = r25 → G X cx 1 (Qm X cx (some (.inl rv)) m_ nx 0 0) (0) (0) m38 (nx) [some (.inr a0)] [] 152 := by
                intro m38 hq
                subst hq
                try dsimp only at h
                refine G_aload_n F dX7_readsCondition_152 rfl ?_
                obtain ⟨v39, e_v39, h⟩ := bnd h
                obtain ⟨hc_v39, e_v39⟩ := hp_on_of e_v39
                refine G_callVv F (As := []) (st := []) (metX7_here X e_v39) hc_v39 rfl rfl (lw_V q1460 q1462 qs46 q109 q1463) hdfX7_here ⟨by omega, by decide⟩ rfl (Nat.le_of_ble_eq_true rfl) ⟨by omega, by omega⟩ dX7_readsCondition_153 ?_
                refine G_bipush F (v := (38 : Int32)) dX7_readsCondition_156 (by decide) ?_
                obtain ⟨p40, hp40, h⟩ := bnd h
                have K40 : ∀ (_ : Unit), Sum.inl () = p40 → G X cx 1 (Qm X cx (some (.inl rv)) m_ nx 0 0) (0) (0) m38 (nx) [some (.inr a0)] [] 180 := by
                  intro _ hq
                  subst hq
                  try dsimp only at h
                  refine G_aload_n F dX7_readsCondition_180 rfl ?_
                  refine G_aload_n F dX7_readsCondition_181 rfl ?_
                  obtain ⟨v41, e_v41, h⟩ := bnd h
                  obtain ⟨hc_v41, e_v41⟩ := hp_on_of e_v41
                  refine G_callVv F (As := []) (st := [.inr a0]) (metX7_here X e_v41) hc_v41 rfl rfl (lw_V q1460 q1462 qs46 q109 q1463) hdfX7_here ⟨by omega, by decide⟩ rfl (Nat.le_of_ble_eq_true rfl) ⟨by omega, by omega⟩ dX7_readsCondition_182 ?_
                  refine G_bipush F (v := (124 : Int32)) dX7_readsCondition_185 (by decide) ?_
                  obtain ⟨p43, hp43, h⟩ := bnd h
                  have K43 : ∀ (v42 : Int32), v42 = p43 → G X cx 1 (Qm X cx (some (.inl rv)) m_ nx 0 0) (0) (0) m38 (nx) [some (.inr a0)] [.inl v42, .inr a0] 195 := by
                    intro v42 hq
                    subst hq
                    try dsimp only at h
                    obtain ⟨m44, e_m44, h⟩ := bnd h
                    obtain ⟨hc_m44, e_m44⟩ := hp_on_of e_m44
                    refine G_callV0 F (As := [.inl v42]) (st := []) (metX7_lands X e_m44) hc_m44 rfl rfl (lw_V q1523 q1525 qs60 q109 q1526) hdfX7_lands ⟨by omega, by decide⟩ rfl (Nat.le_of_ble_eq_true rfl) ⟨by omega, by omega⟩ dX7_readsCondition_195 ?_
                    refine G_aload_n F dX7_readsCondition_198 rfl ?_
                    refine G_aload_n F dX7_readsCondition_199 rfl ?_
                    obtain ⟨v45, e_v45, h⟩ := bnd h
                    obtain ⟨hc_v45, e_v45⟩ := hp_on_of e_v45
                    refine G_callVv F (As := []) (st := [.inr a0]) (metX7_here X e_v45) hc_v45 rfl rfl (lw_V q1460 q1462 qs46 q109 q1463) hdfX7_here ⟨by omega, by decide⟩ rfl (Nat.le_of_ble_eq_true rfl) ⟨by omega, by omega⟩ dX7_readsCondition_200 ?_
                    refine G_bipush F (v := (38 : Int32)) dX7_readsCondition_203 (by decide) ?_
                    refine G_icmp_ne F (tgt := 213) dX7_readsCondition_205 (by decide) (fun c46 => ?_) (fun c46 => ?_)
                    · have h := itf c46 h
                      refine G_bipush F (v := (12 : Int32)) dX7_readsCondition_213 (by decide) ?_
                      obtain ⟨m47, e_m47, h⟩ := bnd h
                      obtain ⟨hc_m47, e_m47⟩ := hp_on_of e_m47
                      refine G_callV0 F (As := [.inl (12 : Int32)]) (st := []) (metX7_jumps X e_m47) hc_m47 rfl rfl (lw_V q1527 q1529 qs61 q109 q1530) hdfX7_jumps ⟨by omega, by decide⟩ rfl (Nat.le_of_ble_eq_true rfl) ⟨by omega, by omega⟩ dX7_readsCondition_215 ?_
                      refine G_goto F (tgt := 40) dX7_readsCondition_218 (by decide) ?_
                      have hq_ := Option.some.inj h
                      have h := K10o _ hq_
                      cases h
                      exact G_sub F (L2 := [some (.inr a0)]) ⟨rfl, trivial⟩ (hP8 _ rfl)
                    · have h := itt c46 h
                      refine G_bipush F (v := (11 : Int32)) dX7_readsCondition_208 (by decide) ?_
                      refine G_goto F (tgt := 215) dX7_readsCondition_210 (by decide) ?_
                      obtain ⟨m48, e_m48, h⟩ := bnd h
                      obtain ⟨hc_m48, e_m48⟩ := hp_on_of e_m48
                      refine G_callV0 F (As := [.inl (11 : Int32)]) (st := []) (metX7_jumps X e_m48) hc_m48 rfl rfl (lw_V q1527 q1529 qs61 q109 q1530) hdfX7_jumps ⟨by omega, by decide⟩ rfl (Nat.le_of_ble_eq_true rfl) ⟨by omega, by omega⟩ dX7_readsCondition_215 ?_
                      refine G_goto F (tgt := 40) dX7_readsCondition_218 (by decide) ?_
                      have hq_ := Option.some.inj h
                      have h := K10o _ hq_
                      cases h
                      exact G_sub F (L2 := [some (.inr a0)]) ⟨rfl, trivial⟩ (hP8 _ rfl)
                  have h := hp43
                  clear hp43
                  refine G_icmp_ne F (tgt := 194) dX7_readsCondition_187 (by decide) (fun c49 => ?_) (fun c49 => ?_)
                  · have h := itf c49 h
                    refine G_iconst F (v := (0 : Int32)) dX7_readsCondition_194 (by decide) ?_
                    have hq_ := Option.some.inj h
                    exact G_sub F (L2 := [some (.inr a0)]) ⟨rfl, trivial⟩ (K43 _ hq_)
                  · have h := itt c49 h
                    refine G_iconst F (v := (1 : Int32)) dX7_readsCondition_190 (by decide) ?_
                    refine G_goto F (tgt := 195) dX7_readsCondition_191 (by decide) ?_
                    have hq_ := Option.some.inj h
                    exact G_sub F (L2 := [some (.inr a0)]) ⟨rfl, trivial⟩ (K43 _ hq_)
                have K40o : ∀ o, Sum.inr o = p40 → some o = some p10 := by
                  intro o hq
                  subst hq
                  exact h
                have h := hp40
                clear hp40
                refine G_icmp_eq F (tgt := 180) dX7_readsCondition_158 (by decide) (fun c50 => ?_) (fun c50 => ?_)
                · have h := itt c50 h
                  have hq_ := Option.some.inj h
                  exact G_sub F (L2 := [some (.inr a0)]) ⟨rfl, trivial⟩ (K40 () hq_)
                · have h := itf c50 h
                  refine G_aload_n F dX7_readsCondition_161 rfl ?_
                  obtain ⟨v51, e_v51, h⟩ := bnd h
                  obtain ⟨hc_v51, e_v51⟩ := hp_on_of e_v51
                  refine G_callVv F (As := []) (st := []) (metX7_here X e_v51) hc_v51 rfl rfl (lw_V q1460 q1462 qs46 q109 q1463) hdfX7_here ⟨by omega, by decide⟩ rfl (Nat.le_of_ble_eq_true rfl) ⟨by omega, by omega⟩ dX7_readsCondition_162 ?_
                  refine G_bipush F (v := (124 : Int32)) dX7_readsCondition_165 (by decide) ?_
                  refine G_icmp_eq F (tgt := 180) dX7_readsCondition_167 (by decide) (fun c52 => ?_) (fun c52 => ?_)
                  · have h := itt c52 h
                    have hq_ := Option.some.inj h
                    exact G_sub F (L2 := [some (.inr a0)]) ⟨rfl, trivial⟩ (K40 () hq_)
                  · have h := itf c52 h
                    refine G_aload_n F dX7_readsCondition_170 rfl ?_
                    refine G_iconst F (v := (1 : Int32)) dX7_readsCondition_171 (by decide) ?_
                    refine G_aload_n F dX7_readsCondition_172 rfl ?_
                    obtain ⟨v53, e_v53, h⟩ := bnd h
                    refine G_getI F okX7 (f := 18) (by decide) q1242 rfl dX7_readsCondition_173 e_v53 ?_
                    obtain ⟨⟨v54, m55⟩, e_v54, h⟩ := bnd h
                    obtain ⟨hc_v54, e_v54⟩ := hp_on_of e_v54
                    refine G_callVv F (As := [.inl (1 : Int32), .inl v53]) (st := []) (metX7_wrongAt X e_v54) hc_v54 rfl rfl (lw_V q1464 q1466 qs47 q109 q1467) hdfX7_wrongAt ⟨by omega, by decide⟩ rfl (Nat.le_of_ble_eq_true rfl) ⟨by omega, by omega⟩ dX7_readsCondition_176 ?_
                    obtain ⟨z56, e_z56, h⟩ := bnd h
                    have hz_ := hp_z_of e_z56
                    have hq_ := Option.some.inj h
                    have h := K40o _ hq_
                    have hq_ := Option.some.inj h
                    have h := K10o _ hq_
                    cases h
                    have h := KR8 _ (hE8 _ rfl)
                    cases h
                    exact G_zretz F rfl hz_ (Nat.le_refl _) (Nat.le_refl _) rfl dX7_readsCondition_179
              have KR25 : ∀ q, Sum.inr q = r25 → some q = some p10 := by
                intro q hq
                subst hq
                exact h
              have KB25 : ∀ s o25, fX7_readsCondition_L92 a0 s = some o25 → (∀ s', o25 = Sum.inl s' → (fun (s : Hp) => match s with | m25 => G X cx 1 (Qm X cx (some (.inl rv)) m_ nx 0 0) (0) (0) m25 (nx) [some (.inr a0)] [] 92) s') → (∀ q, o25 = Sum.inr q → q = r25) → (fun (s : Hp) => match s with | m25 => G X cx 1 (Qm X cx (some (.inl rv)) m_ nx 0 0) (0) (0) m25 (nx) [some (.inr a0)] [] 92) s := by
                intro s o25 h hP25 hE25
                obtain ⟨m25, hs_⟩ : ∃ x, x = s := ⟨_, rfl⟩
                subst hs_
                try dsimp only at hP25 hE25 ⊢
                refine G_aload_n F dX7_readsCondition_92 rfl ?_
                obtain ⟨v26, e_v26, h⟩ := bnd h
                obtain ⟨hc_v26, e_v26⟩ := hp_on_of e_v26
                refine G_callVv F (As := []) (st := []) (metX7_here X e_v26) hc_v26 rfl rfl (lw_V q1460 q1462 qs46 q109 q1463) hdfX7_here ⟨by omega, by decide⟩ rfl (Nat.le_of_ble_eq_true rfl) ⟨by omega, by omega⟩ dX7_readsCondition_93 ?_
                refine G_bipush F (v := (41 : Int32)) dX7_readsCondition_96 (by decide) ?_
                refine G_icmp_ne F (tgt := 152) dX7_readsCondition_98 (by decide) (fun c27 => ?_) (fun c27 => ?_)
                · have h := itf c27 h
                  cases h
                  exact G_sub F (L2 := [some (.inr a0)]) ⟨rfl, trivial⟩ (KE25 _ (hE25 _ rfl))
                · have h := itt c27 h
                  refine G_aload_n F dX7_readsCondition_101 rfl ?_
                  refine G_iconst F (v := (1 : Int32)) dX7_readsCondition_102 (by decide) ?_
                  obtain ⟨m28, e_m28, h⟩ := bnd h
                  obtain ⟨hc_m28, e_m28⟩ := hp_on_of e_m28
                  refine G_callV0 F (As := [.inl (1 : Int32)]) (st := []) (metX7_lands X e_m28) hc_m28 rfl rfl (lw_V q1523 q1525 qs60 q109 q1526) hdfX7_lands ⟨by omega, by decide⟩ rfl (Nat.le_of_ble_eq_true rfl) ⟨by omega, by omega⟩ dX7_readsCondition_103 ?_
                  refine G_aload_n F dX7_readsCondition_106 rfl ?_
                  refine G_aload_n F dX7_readsCondition_107 rfl ?_
                  obtain ⟨v29, e_v29, h⟩ := bnd h
                  refine G_getI F okX7 (f := 24) (by decide) q1248 rfl dX7_readsCondition_108 e_v29 ?_
                  refine G_iconst F (v := (1 : Int32)) dX7_readsCondition_111 (by decide) ?_
                  refine G_isub F dX7_readsCondition_112 ?_
                  obtain ⟨m30, e_m30, h⟩ := bnd h
                  refine G_putV F okX7 (f := 24) (by decide) q1248 rfl rfl dX7_readsCondition_113 (vfit_int _) e_m30 ?_
                  refine G_aload_n F dX7_readsCondition_116 rfl ?_
                  refine G_aload_n F dX7_readsCondition_117 rfl ?_
                  obtain ⟨v31, e_v31, h⟩ := bnd h
                  refine G_getI F okX7 (f := 22) (by decide) q1246 rfl dX7_readsCondition_118 e_v31 ?_
                  refine G_iconst F (v := (1 : Int32)) dX7_readsCondition_121 (by decide) ?_
                  refine G_isub F dX7_readsCondition_122 ?_
                  obtain ⟨m32, e_m32, h⟩ := bnd h
                  refine G_putV F okX7 (f := 22) (by decide) q1246 rfl rfl dX7_readsCondition_123 (vfit_int _) e_m32 ?_
                  refine G_aload_n F dX7_readsCondition_126 rfl ?_
                  refine G_aload_n F dX7_readsCondition_127 rfl ?_
                  obtain ⟨v33, e_v33, h⟩ := bnd h
                  refine G_getI F okX7 (f := 18) (by decide) q1242 rfl dX7_readsCondition_128 e_v33 ?_
                  refine G_iconst F (v := (1 : Int32)) dX7_readsCondition_131 (by decide) ?_
                  refine G_iadd F dX7_readsCondition_132 ?_
                  obtain ⟨m34, e_m34, h⟩ := bnd h
                  refine G_putV F okX7 (f := 18) (by decide) q1242 rfl rfl dX7_readsCondition_133 (vfit_int _) e_m34 ?_
                  refine G_aload_n F dX7_readsCondition_136 rfl ?_
                  obtain ⟨v35, e_v35, h⟩ := bnd h
                  refine G_getI F okX7 (f := 24) (by decide) q1248 rfl dX7_readsCondition_137 e_v35 ?_
                  refine G_if_ne F (tgt := 145) dX7_readsCondition_140 (by decide) (fun c36 => ?_) (fun c36 => ?_)
                  · have h := itf c36 h
                    refine G_aload_n F dX7_readsCondition_145 rfl ?_
                    obtain ⟨m37, e_m37, h⟩ := bnd h
                    obtain ⟨hc_m37, e_m37⟩ := hp_on_of e_m37
                    refine G_callV0 F (As := []) (st := []) (metX7_endsPiece X e_m37) hc_m37 rfl rfl (lw_V q1519 q1521 qs59 q109 q1522) hdfX7_endsPiece ⟨by omega, by decide⟩ rfl (Nat.le_of_ble_eq_true rfl) ⟨by omega, by omega⟩ dX7_readsCondition_146 ?_
                    refine G_goto F (tgt := 92) dX7_readsCondition_149 (by decide) ?_
                    cases h
                    exact G_sub F (L2 := [some (.inr a0)]) ⟨rfl, trivial⟩ (hP25 _ rfl)
                  · have h := itt c36 h
                    refine G_iconst F (v := (1 : Int32)) dX7_readsCondition_143 (by decide) ?_
                    cases h
                    have h := KR25 _ (hE25 _ rfl)
                    have hq_ := Option.some.inj h
                    have h := K10o _ hq_
                    cases h
                    have h := KR8 _ (hE8 _ rfl)
                    cases h
                    exact G_zret F rfl (Or.inr rfl) (Nat.le_refl _) (Nat.le_refl _) rfl dX7_readsCondition_144
              have hI := iter_ok (fun (s : Hp) => match s with | m25 => G X cx 1 (Qm X cx (some (.inl rv)) m_ nx 0 0) (0) (0) m25 (nx) [some (.inr a0)] [] 92) (fun q => q = r25) KB25 _ _ _ hr25 rfl
              exact G_sub F (L2 := [some (.inr a0)]) ⟨rfl, trivial⟩ hI
            · have h := itt c24 h
              refine G_iconst F (v := (0 : Int32)) dX7_readsCondition_90 (by decide) ?_
              have hq_ := Option.some.inj h
              have h := K10o _ hq_
              cases h
              have h := KR8 _ (hE8 _ rfl)
              cases h
              exact G_zret F rfl (Or.inl rfl) (Nat.le_refl _) (Nat.le_refl _) rfl dX7_readsCondition_91
          · have h := itt c21 h
            have hq_ := Option.some.inj h
            exact G_sub F (L2 := [some (.inr a0)]) ⟨rfl, trivial⟩ (K10 () hq_)
      have hI := iter_ok (fun (s : Hp) => match s with | m8 => G X cx 1 (Qm X cx (some (.inl rv)) m_ nx 0 0) (0) (0) m8 (nx) [some (.inr a0)] [] 40) (fun q => q = r8) KB8 _ _ _ hr8 rfl
      exact G_sub F (L2 := [some (.inr a0)]) ⟨rfl, trivial⟩ hI
    · have h := itt c7 h
      refine G_iconst F (v := (0 : Int32)) dX7_readsCondition_38 (by decide) ?_
      cases h
      exact G_zret F rfl (Or.inl rfl) (Nat.le_refl _) (Nat.le_refl _) rfl dX7_readsCondition_39
  · have h := itf c2 h
    refine G_aload_n F dX7_readsCondition_9 rfl ?_
    refine G_iconst F (v := (1 : Int32)) dX7_readsCondition_10 (by decide) ?_
    refine G_aload_n F dX7_readsCondition_11 rfl ?_
    obtain ⟨v58, e_v58, h⟩ := bnd h
    refine G_getI F okX7 (f := 18) (by decide) q1242 rfl dX7_readsCondition_12 e_v58 ?_
    obtain ⟨⟨v59, m60⟩, e_v59, h⟩ := bnd h
    obtain ⟨hc_v59, e_v59⟩ := hp_on_of e_v59
    refine G_callVv F (As := [.inl (1 : Int32), .inl v58]) (st := []) (metX7_wrongAt X e_v59) hc_v59 rfl rfl (lw_V q1464 q1466 qs47 q109 q1467) hdfX7_wrongAt ⟨by omega, by decide⟩ rfl (Nat.le_of_ble_eq_true rfl) ⟨by omega, by omega⟩ dX7_readsCondition_15 ?_
    obtain ⟨z61, e_z61, h⟩ := bnd h
    have hz_ := hp_z_of e_z61
    cases h
    exact G_zretz F rfl hz_ (Nat.le_refl _) (Nat.le_refl _) rfl dX7_readsCondition_18

theorem metX7_readsRule (X : Gx) {m : Hp} {nx : Nat} {a0 : Option Nat} {rv : Int32} {m_ : Hp} (h : fX7_readsRule m a0 = some (rv, m_)) : Con X (8) yX7_readsRule cX7_readsRule 2 ((Option.some FieldType.boolean)) [.inr a0] m nx (some (.inl rv)) m_ 0 0 := by
  refine Con.of (own := RX7) (nm := "readsRule") (L := [some (.inr a0), none]) (by decide +kernel) rfl rfl (Nat.le_of_ble_eq_true rfl) (ent_of 1 rfl) ?_
  intro cx F
  refine G_aload_n F dX7_readsRule_0 rfl ?_
  obtain ⟨v1, e_v1, h⟩ := bnd h
  obtain ⟨hc_v1, e_v1⟩ := hp_on_of e_v1
  refine G_callVv F (As := []) (st := []) (metX7_here X e_v1) hc_v1 rfl rfl (lw_V q1460 q1462 qs46 q109 q1463) hdfX7_here ⟨by omega, by decide⟩ rfl (Nat.le_of_ble_eq_true rfl) ⟨by omega, by omega⟩ dX7_readsRule_1 ?_
  refine G_istore_n F (L2 := [some (.inr a0), some (.inl v1)]) dX7_readsRule_4 (by decide) rfl ?_
  refine G_iload_n F dX7_readsRule_5 rfl ?_
  refine G_bipush F (v := (100 : Int32)) dX7_readsRule_6 (by decide) ?_
  obtain ⟨p2, hp2, h⟩ := bnd h
  have K2 : ∀ (_ : Unit), Sum.inl () = p2 → G X cx 2 (Qm X cx (some (.inl rv)) m_ nx 0 0) (0) (0) m (nx) [some (.inr a0), some (.inl v1)] [] 33 := by
    intro _ hq
    subst hq
    try dsimp only at h
    refine G_aload_n F dX7_readsRule_33 rfl ?_
    obtain ⟨v3, e_v3, h⟩ := bnd h
    refine G_getI F okX7 (f := 25) (by decide) q1249 rfl dX7_readsRule_34 e_v3 ?_
    refine G_bipush F (v := (16 : Int32)) dX7_readsRule_37 (by decide) ?_
    refine G_icmp_ne F (tgt := 52) dX7_readsRule_39 (by decide) (fun c4 => ?_) (fun c4 => ?_)
    · have h := itf c4 h
      refine G_aload_n F dX7_readsRule_52 rfl ?_
      obtain ⟨v5, e_v5, h⟩ := bnd h
      refine G_getR F okX7 (f := 29) (by decide) q1253 rfl dX7_readsRule_53 e_v5 ?_
      refine G_aload_n F dX7_readsRule_56 rfl ?_
      obtain ⟨v6, e_v6, h⟩ := bnd h
      refine G_getI F okX7 (f := 25) (by decide) q1249 rfl dX7_readsRule_57 e_v6 ?_
      refine G_iload_n F dX7_readsRule_60 rfl ?_
      obtain ⟨m7, e_m7, h⟩ := bnd h
      refine G_iast F dX7_readsRule_61 e_m7 ?_
      refine G_aload_n F dX7_readsRule_62 rfl ?_
      refine G_aload_n F dX7_readsRule_63 rfl ?_
      obtain ⟨v8, e_v8, h⟩ := bnd h
      refine G_getI F okX7 (f := 18) (by decide) q1242 rfl dX7_readsRule_64 e_v8 ?_
      refine G_iconst F (v := (1 : Int32)) dX7_readsRule_67 (by decide) ?_
      refine G_iadd F dX7_readsRule_68 ?_
      obtain ⟨m9, e_m9, h⟩ := bnd h
      refine G_putV F okX7 (f := 18) (by decide) q1242 rfl rfl dX7_readsRule_69 (vfit_int _) e_m9 ?_
      refine G_aload_n F dX7_readsRule_72 rfl ?_
      obtain ⟨v10, e_v10, h⟩ := bnd h
      refine G_getR F okX7 (f := 30) (by decide) q1254 rfl dX7_readsRule_73 e_v10 ?_
      refine G_aload_n F dX7_readsRule_76 rfl ?_
      obtain ⟨v11, e_v11, h⟩ := bnd h
      refine G_getI F okX7 (f := 25) (by decide) q1249 rfl dX7_readsRule_77 e_v11 ?_
      refine G_aload_n F dX7_readsRule_80 rfl ?_
      obtain ⟨v12, e_v12, h⟩ := bnd h
      refine G_getI F okX7 (f := 23) (by decide) q1247 rfl dX7_readsRule_81 e_v12 ?_
      obtain ⟨m13, e_m13, h⟩ := bnd h
      refine G_iast F dX7_readsRule_84 e_m13 ?_
      refine G_aload_n F dX7_readsRule_85 rfl ?_
      refine G_iconst F (v := (0 : Int32)) dX7_readsRule_86 (by decide) ?_
      obtain ⟨m14, e_m14, h⟩ := bnd h
      refine G_putV F okX7 (f := 22) (by decide) q1246 rfl rfl dX7_readsRule_87 (vfit_int _) e_m14 ?_
      refine G_aload_n F dX7_readsRule_90 rfl ?_
      refine G_iconst F (v := (0 : Int32)) dX7_readsRule_91 (by decide) ?_
      obtain ⟨m15, e_m15, h⟩ := bnd h
      refine G_putV F okX7 (f := 24) (by decide) q1248 rfl rfl dX7_readsRule_92 (vfit_int _) e_m15 ?_
      refine G_iload_n F dX7_readsRule_95 rfl ?_
      refine G_bipush F (v := (109 : Int32)) dX7_readsRule_96 (by decide) ?_
      obtain ⟨p17, hp17, h⟩ := bnd h
      have K17 : ∀ (m16 : Hp), Sum.inl m16 = p17 → G X cx 2 (Qm X cx (some (.inl rv)) m_ nx 0 0) (0) (0) m16 (nx) [some (.inr a0), none] [] 110 := by
        intro m16 hq
        subst hq
        try dsimp only at h
        refine G_aload_n F dX7_readsRule_110 rfl ?_
        obtain ⟨v18, e_v18, h⟩ := bnd h
        refine G_getR F okX7 (f := 31) (by decide) q1255 rfl dX7_readsRule_111 e_v18 ?_
        refine G_aload_n F dX7_readsRule_114 rfl ?_
        obtain ⟨v19, e_v19, h⟩ := bnd h
        refine G_getI F okX7 (f := 25) (by decide) q1249 rfl dX7_readsRule_115 e_v19 ?_
        refine G_aload_n F dX7_readsRule_118 rfl ?_
        obtain ⟨v20, e_v20, h⟩ := bnd h
        refine G_getI F okX7 (f := 23) (by decide) q1247 rfl dX7_readsRule_119 e_v20 ?_
        obtain ⟨m21, e_m21, h⟩ := bnd h
        refine G_iast F dX7_readsRule_122 e_m21 ?_
        refine G_aload_n F dX7_readsRule_123 rfl ?_
        obtain ⟨⟨v22, m23⟩, e_v22, h⟩ := bnd h
        obtain ⟨hc_v22, e_v22⟩ := hp_on_of e_v22
        refine G_callVv F (As := []) (st := []) (metX7_readsCondition X e_v22) hc_v22 rfl rfl (lw_V q1511 q1513 qs57 q109 q1514) hdfX7_readsCondition ⟨by omega, by decide⟩ rfl (Nat.le_of_ble_eq_true rfl) ⟨by omega, by omega⟩ dX7_readsRule_124 ?_
        refine G_if_ne F (tgt := 132) dX7_readsRule_127 (by decide) (fun c24 => ?_) (fun c24 => ?_)
        · have h := itf c24 h
          refine G_aload_n F dX7_readsRule_132 rfl ?_
          obtain ⟨v25, e_v25, h⟩ := bnd h
          refine G_getR F okX7 (f := 32) (by decide) q1256 rfl dX7_readsRule_133 e_v25 ?_
          refine G_aload_n F dX7_readsRule_136 rfl ?_
          obtain ⟨v26, e_v26, h⟩ := bnd h
          refine G_getI F okX7 (f := 25) (by decide) q1249 rfl dX7_readsRule_137 e_v26 ?_
          refine G_aload_n F dX7_readsRule_140 rfl ?_
          obtain ⟨v27, e_v27, h⟩ := bnd h
          refine G_getI F okX7 (f := 23) (by decide) q1247 rfl dX7_readsRule_141 e_v27 ?_
          obtain ⟨m28, e_m28, h⟩ := bnd h
          refine G_iast F dX7_readsRule_144 e_m28 ?_
          refine G_aload_n F dX7_readsRule_145 rfl ?_
          refine G_aload_n F dX7_readsRule_146 rfl ?_
          obtain ⟨v29, e_v29, h⟩ := bnd h
          refine G_getI F okX7 (f := 25) (by decide) q1249 rfl dX7_readsRule_147 e_v29 ?_
          refine G_iconst F (v := (1 : Int32)) dX7_readsRule_150 (by decide) ?_
          refine G_iadd F dX7_readsRule_151 ?_
          obtain ⟨m30, e_m30, h⟩ := bnd h
          refine G_putV F okX7 (f := 25) (by decide) q1249 rfl rfl dX7_readsRule_152 (vfit_int _) e_m30 ?_
          refine G_iconst F (v := (1 : Int32)) dX7_readsRule_155 (by decide) ?_
          cases h
          exact G_zret F rfl (Or.inr rfl) (Nat.le_refl _) (Nat.le_refl _) rfl dX7_readsRule_156
        · have h := itt c24 h
          refine G_iconst F (v := (0 : Int32)) dX7_readsRule_130 (by decide) ?_
          cases h
          exact G_zret F rfl (Or.inl rfl) (Nat.le_refl _) (Nat.le_refl _) rfl dX7_readsRule_131
      have K17o : ∀ o, Sum.inr o = p17 → some o = some (rv, m_) := by
        intro o hq
        subst hq
        exact h
      have h := hp17
      clear hp17
      refine G_icmp_eq F (tgt := 110) dX7_readsRule_98 (by decide) (fun c31 => ?_) (fun c31 => ?_)
      · have h := itt c31 h
        have hq_ := Option.some.inj h
        exact G_sub F (L2 := [some (.inr a0), none]) ⟨rfl, trivial⟩ (K17 _ hq_)
      · have h := itf c31 h
        refine G_aload_n F dX7_readsRule_101 rfl ?_
        obtain ⟨⟨v32, m33⟩, e_v32, h⟩ := bnd h
        obtain ⟨hc_v32, e_v32⟩ := hp_on_of e_v32
        refine G_callVv F (As := []) (st := []) (metX7_readsSum X e_v32) hc_v32 rfl rfl (lw_V q1468 q1470 qs48 q109 q1471) hdfX7_readsSum ⟨by omega, by decide⟩ rfl (Nat.le_of_ble_eq_true rfl) ⟨by omega, by omega⟩ dX7_readsRule_102 ?_
        refine G_if_ne F (tgt := 110) dX7_readsRule_105 (by decide) (fun c34 => ?_) (fun c34 => ?_)
        · have h := itf c34 h
          have hq_ := Option.some.inj h
          exact G_sub F (L2 := [some (.inr a0), none]) ⟨rfl, trivial⟩ (K17 _ hq_)
        · have h := itt c34 h
          refine G_iconst F (v := (0 : Int32)) dX7_readsRule_108 (by decide) ?_
          have hq_ := Option.some.inj h
          have h := K17o _ hq_
          cases h
          exact G_zret F rfl (Or.inl rfl) (Nat.le_refl _) (Nat.le_refl _) rfl dX7_readsRule_109
    · have h := itt c4 h
      refine G_aload_n F dX7_readsRule_42 rfl ?_
      refine G_iconst F (v := (4 : Int32)) dX7_readsRule_43 (by decide) ?_
      refine G_aload_n F dX7_readsRule_44 rfl ?_
      obtain ⟨v35, e_v35, h⟩ := bnd h
      refine G_getI F okX7 (f := 18) (by decide) q1242 rfl dX7_readsRule_45 e_v35 ?_
      obtain ⟨⟨v36, m37⟩, e_v36, h⟩ := bnd h
      obtain ⟨hc_v36, e_v36⟩ := hp_on_of e_v36
      refine G_callVv F (As := [.inl (4 : Int32), .inl v35]) (st := []) (metX7_wrongAt X e_v36) hc_v36 rfl rfl (lw_V q1464 q1466 qs47 q109 q1467) hdfX7_wrongAt ⟨by omega, by decide⟩ rfl (Nat.le_of_ble_eq_true rfl) ⟨by omega, by omega⟩ dX7_readsRule_48 ?_
      obtain ⟨z38, e_z38, h⟩ := bnd h
      have hz_ := hp_z_of e_z38
      cases h
      exact G_zretz F rfl hz_ (Nat.le_refl _) (Nat.le_refl _) rfl dX7_readsRule_51
  have K2o : ∀ o, Sum.inr o = p2 → some o = some (rv, m_) := by
    intro o hq
    subst hq
    exact h
  have h := hp2
  clear hp2
  refine G_icmp_eq F (tgt := 33) dX7_readsRule_8 (by decide) (fun c39 => ?_) (fun c39 => ?_)
  · have h := itt c39 h
    have hq_ := Option.some.inj h
    exact G_sub F (L2 := [some (.inr a0), some (.inl v1)]) ⟨rfl, ⟨rfl, trivial⟩⟩ (K2 () hq_)
  · have h := itf c39 h
    refine G_iload_n F dX7_readsRule_11 rfl ?_
    refine G_bipush F (v := (99 : Int32)) dX7_readsRule_12 (by decide) ?_
    refine G_icmp_eq F (tgt := 33) dX7_readsRule_14 (by decide) (fun c40 => ?_) (fun c40 => ?_)
    · have h := itt c40 h
      have hq_ := Option.some.inj h
      exact G_sub F (L2 := [some (.inr a0), some (.inl v1)]) ⟨rfl, ⟨rfl, trivial⟩⟩ (K2 () hq_)
    · have h := itf c40 h
      refine G_iload_n F dX7_readsRule_17 rfl ?_
      refine G_bipush F (v := (109 : Int32)) dX7_readsRule_18 (by decide) ?_
      refine G_icmp_eq F (tgt := 33) dX7_readsRule_20 (by decide) (fun c41 => ?_) (fun c41 => ?_)
      · have h := itt c41 h
        have hq_ := Option.some.inj h
        exact G_sub F (L2 := [some (.inr a0), some (.inl v1)]) ⟨rfl, ⟨rfl, trivial⟩⟩ (K2 () hq_)
      · have h := itf c41 h
        refine G_aload_n F dX7_readsRule_23 rfl ?_
        refine G_iconst F (v := (1 : Int32)) dX7_readsRule_24 (by decide) ?_
        refine G_aload_n F dX7_readsRule_25 rfl ?_
        obtain ⟨v42, e_v42, h⟩ := bnd h
        refine G_getI F okX7 (f := 18) (by decide) q1242 rfl dX7_readsRule_26 e_v42 ?_
        obtain ⟨⟨v43, m44⟩, e_v43, h⟩ := bnd h
        obtain ⟨hc_v43, e_v43⟩ := hp_on_of e_v43
        refine G_callVv F (As := [.inl (1 : Int32), .inl v42]) (st := []) (metX7_wrongAt X e_v43) hc_v43 rfl rfl (lw_V q1464 q1466 qs47 q109 q1467) hdfX7_wrongAt ⟨by omega, by decide⟩ rfl (Nat.le_of_ble_eq_true rfl) ⟨by omega, by omega⟩ dX7_readsRule_29 ?_
        obtain ⟨z45, e_z45, h⟩ := bnd h
        have hz_ := hp_z_of e_z45
        have hq_ := Option.some.inj h
        have h := K2o _ hq_
        cases h
        exact G_zretz F rfl hz_ (Nat.le_refl _) (Nat.le_refl _) rfl dX7_readsRule_32

theorem metX7_beginsText (X : Gx) {m : Hp} {nx : Nat} {a0 : Option Nat} {a1 : Int32} {m_ : Hp} (h : fX7_beginsText m a0 a1 = some m_) : Con X (1) yX7_beginsText cX7_beginsText 2 ((none : Option FieldType)) [.inr a0, .inl a1] m nx none m_ 0 0 := by
  refine Con.of (own := RX7) (nm := "beginsText") (L := [some (.inr a0), some (.inl a1)]) (by decide +kernel) rfl rfl (Nat.le_of_ble_eq_true rfl) (ent_of 0 rfl) ?_
  intro cx F
  refine G_aload_n F dX7_beginsText_0 rfl ?_
  refine G_iconst F (v := (0 : Int32)) dX7_beginsText_1 (by decide) ?_
  obtain ⟨m1, e_m1, h⟩ := bnd h
  refine G_putV F okX7 (f := 18) (by decide) q1242 rfl rfl dX7_beginsText_2 (vfit_int _) e_m1 ?_
  refine G_aload_n F dX7_beginsText_5 rfl ?_
  refine G_iload_n F dX7_beginsText_6 rfl ?_
  obtain ⟨m2, e_m2, h⟩ := bnd h
  refine G_putV F okX7 (f := 19) (by decide) q1243 rfl rfl dX7_beginsText_7 (vfit_int _) e_m2 ?_
  refine G_aload_n F dX7_beginsText_10 rfl ?_
  refine G_iconst F (v := (0 : Int32)) dX7_beginsText_11 (by decide) ?_
  obtain ⟨m3, e_m3, h⟩ := bnd h
  refine G_putV F okX7 (f := 23) (by decide) q1247 rfl rfl dX7_beginsText_12 (vfit_int _) e_m3 ?_
  refine G_aload_n F dX7_beginsText_15 rfl ?_
  refine G_iconst F (v := (0 : Int32)) dX7_beginsText_16 (by decide) ?_
  obtain ⟨m4, e_m4, h⟩ := bnd h
  refine G_putV F okX7 (f := 25) (by decide) q1249 rfl rfl dX7_beginsText_17 (vfit_int _) e_m4 ?_
  cases h
  exact G_vret F rfl (Nat.le_refl _) (Nat.le_refl _) rfl dX7_beginsText_20

theorem metX7_law (X : Gx) {m : Hp} {nx : Nat} {a0 : Option Nat} {a1 : Int32} {rv : Int32} {m_ : Hp} (h : fX7_law m a0 a1 = some (rv, m_)) : Con X (9) yX7_law cX7_law 4 ((Option.some FieldType.int)) [.inr a0, .inl a1] m nx (some (.inl rv)) m_ 0 0 := by
  refine Con.of (own := RX7) (nm := "law") (L := [some (.inr a0), some (.inl a1), none, none]) (by decide +kernel) rfl rfl (Nat.le_of_ble_eq_true rfl) (ent_of 2 rfl) ?_
  intro cx F
  refine G_iload_n F dX7_law_0 rfl ?_
  refine G_iconst F (v := (1 : Int32)) dX7_law_1 (by decide) ?_
  refine G_sipush F (v := (240 : Int32)) dX7_law_2 (by decide) ?_
  obtain ⟨v1, e_v1, h⟩ := bnd h
  refine G_callSv F (As := [.inl a1, .inl (1 : Int32), .inl (240 : Int32)]) (st := []) (metX7_in X e_v1) (lw_S q1427 q1428 q109 q1429) hdfX7_in ⟨by omega, by decide⟩ rfl (Nat.le_of_ble_eq_true rfl) ⟨by omega, by omega⟩ dX7_law_5 ?_
  refine G_if_eq F (tgt := 19) dX7_law_8 (by decide) (fun c2 => ?_) (fun c2 => ?_)
  · have h := itt c2 h
    refine G_iconst F (v := (-1 : Int32)) dX7_law_19 (by decide) ?_
    cases h
    exact G_iret F rfl (Nat.le_refl _) (Nat.le_refl _) rfl dX7_law_20
  · have h := itf c2 h
    refine G_iload_n F dX7_law_11 rfl ?_
    refine G_aload_n F dX7_law_12 rfl ?_
    obtain ⟨v3, e_v3, h⟩ := bnd h
    refine G_getI F okX7 (f := 17) (by decide) q1241 rfl dX7_law_13 e_v3 ?_
    refine G_icmp_le F (tgt := 21) dX7_law_16 (by decide) (fun c4 => ?_) (fun c4 => ?_)
    · have h := itt c4 h
      refine G_aload_n F dX7_law_21 rfl ?_
      refine G_iload_n F dX7_law_22 rfl ?_
      obtain ⟨m5, e_m5, h⟩ := bnd h
      obtain ⟨hc_m5, e_m5⟩ := hp_on_of e_m5
      refine G_callV0 F (As := [.inl a1]) (st := []) (metX7_beginsText X e_m5) hc_m5 rfl rfl (lw_V q1452 q1454 qs44 q109 q1455) hdfX7_beginsText ⟨by omega, by decide⟩ rfl (Nat.le_of_ble_eq_true rfl) ⟨by omega, by omega⟩ dX7_law_23 ?_
      refine G_aload_n F dX7_law_26 rfl ?_
      obtain ⟨⟨v6, m7⟩, e_v6, h⟩ := bnd h
      obtain ⟨hc_v6, e_v6⟩ := hp_on_of e_v6
      refine G_callVv F (As := []) (st := []) (metX7_readsRule X e_v6) hc_v6 rfl rfl (lw_V q1456 q1458 qs45 q109 q1459) hdfX7_readsRule ⟨by omega, by decide⟩ rfl (Nat.le_of_ble_eq_true rfl) ⟨by omega, by omega⟩ dX7_law_27 ?_
      refine G_istore_n F (L2 := [some (.inr a0), some (.inl a1), some (.inl v6), none]) dX7_law_30 (by decide) rfl ?_
      obtain ⟨r8, hr8, h⟩ := bnd h
      have KE8 : ∀ (v19 : Int32) (m20 : Hp), (v19, m20) = r8 → G X cx 4 (Qm X cx (some (.inl rv)) m_ nx 0 0) (0) (0) m20 (nx) [some (.inr a0), none, some (.inl v19), none] [] 71 := by
        intro v19 m20 hq
        subst hq
        try dsimp only at h
        refine G_aload_n F dX7_law_71 rfl ?_
        refine G_iconst F (v := (0 : Int32)) dX7_law_72 (by decide) ?_
        obtain ⟨m21, e_m21, h⟩ := bnd h
        refine G_putV F okX7 (f := 17) (by decide) q1241 rfl rfl dX7_law_73 (vfit_int _) e_m21 ?_
        refine G_iload_n F dX7_law_76 rfl ?_
        refine G_if_ne F (tgt := 85) dX7_law_77 (by decide) (fun c22 => ?_) (fun c22 => ?_)
        · have h := itf c22 h
          refine G_aload_n F dX7_law_85 rfl ?_
          refine G_aload_n F dX7_law_86 rfl ?_
          obtain ⟨v23, e_v23, h⟩ := bnd h
          refine G_getI F okX7 (f := 25) (by decide) q1249 rfl dX7_law_87 e_v23 ?_
          obtain ⟨m24, e_m24, h⟩ := bnd h
          refine G_putV F okX7 (f := 26) (by decide) q1250 rfl rfl dX7_law_90 (vfit_int _) e_m24 ?_
          refine G_iconst F (v := (0 : Int32)) dX7_law_93 (by decide) ?_
          refine G_istore_n F (L2 := [some (.inr a0), none, some (.inl v19), some (.inl (0 : Int32))]) dX7_law_94 (by decide) rfl ?_
          obtain ⟨r25, hr25, h⟩ := bnd h
          have KE25 : ∀ (m32 : Hp), m32 = r25 → G X cx 4 (Qm X cx (some (.inl rv)) m_ nx 0 0) (0) (0) m32 (nx) [some (.inr a0), none, none, none] [] 121 := by
            intro m32 hq
            subst hq
            try dsimp only at h
            refine G_iconst F (v := (0 : Int32)) dX7_law_121 (by decide) ?_
            refine G_istore_n F (L2 := [some (.inr a0), none, none, some (.inl (0 : Int32))]) dX7_law_122 (by decide) rfl ?_
            obtain ⟨r33, hr33, h⟩ := bnd h
            have KE33 : ∀ (m52 : Hp), m52 = r33 → G X cx 4 (Qm X cx (some (.inl rv)) m_ nx 0 0) (0) (0) m52 (nx) [some (.inr a0), none, none, none] [] 185 := by
              intro m52 hq
              subst hq
              try dsimp only at h
              refine G_aload_n F dX7_law_185 rfl ?_
              obtain ⟨v53, e_v53, h⟩ := bnd h
              refine G_getI F okX7 (f := 25) (by decide) q1249 rfl dX7_law_186 e_v53 ?_
              cases h
              exact G_iret F rfl (Nat.le_refl _) (Nat.le_refl _) rfl dX7_law_189
            have KB33 : ∀ s o33, fX7_law_L123 a0 s = some o33 → (∀ s', o33 = Sum.inl s' → (fun (s : (Int32 × Hp)) => match s with | (s3_33, m33) => G X cx 4 (Qm X cx (some (.inl rv)) m_ nx 0 0) (0) (0) m33 (nx) [some (.inr a0), none, none, some (.inl s3_33)] [] 123) s') → (∀ q, o33 = Sum.inr q → q = r33) → (fun (s : (Int32 × Hp)) => match s with | (s3_33, m33) => G X cx 4 (Qm X cx (some (.inl rv)) m_ nx 0 0) (0) (0) m33 (nx) [some (.inr a0), none, none, some (.inl s3_33)] [] 123) s := by
              intro s o33 h hP33 hE33
              obtain ⟨s3_33, m33⟩ := s
              try dsimp only at hP33 hE33 ⊢
              refine G_iload_n F dX7_law_123 rfl ?_
              refine G_aload_n F dX7_law_124 rfl ?_
              obtain ⟨v34, e_v34, h⟩ := bnd h
              refine G_getI F okX7 (f := 25) (by decide) q1249 rfl dX7_law_125 e_v34 ?_
              refine G_icmp_ge F (tgt := 185) dX7_law_128 (by decide) (fun c35 => ?_) (fun c35 => ?_)
              · have h := itt c35 h
                cases h
                exact G_sub F (L2 := [some (.inr a0), none, none, none]) ⟨rfl, trivial⟩ (KE33 _ (hE33 _ rfl))
              · have h := itf c35 h
                refine G_aload_n F dX7_law_131 rfl ?_
                obtain ⟨v36, e_v36, h⟩ := bnd h
                refine G_getR F okX7 (f := 34) (by decide) q1258 rfl dX7_law_132 e_v36 ?_
                refine G_iload_n F dX7_law_135 rfl ?_
                refine G_aload_n F dX7_law_136 rfl ?_
                obtain ⟨v37, e_v37, h⟩ := bnd h
                refine G_getR F okX7 (f := 29) (by decide) q1253 rfl dX7_law_137 e_v37 ?_
                refine G_iload_n F dX7_law_140 rfl ?_
                obtain ⟨v38, e_v38, h⟩ := bnd h
                refine G_iald F dX7_law_141 e_v38 ?_
                obtain ⟨m39, e_m39, h⟩ := bnd h
                refine G_iast F dX7_law_142 e_m39 ?_
                refine G_aload_n F dX7_law_143 rfl ?_
                obtain ⟨v40, e_v40, h⟩ := bnd h
                refine G_getR F okX7 (f := 35) (by decide) q1259 rfl dX7_law_144 e_v40 ?_
                refine G_iload_n F dX7_law_147 rfl ?_
                refine G_aload_n F dX7_law_148 rfl ?_
                obtain ⟨v41, e_v41, h⟩ := bnd h
                refine G_getR F okX7 (f := 30) (by decide) q1254 rfl dX7_law_149 e_v41 ?_
                refine G_iload_n F dX7_law_152 rfl ?_
                obtain ⟨v42, e_v42, h⟩ := bnd h
                refine G_iald F dX7_law_153 e_v42 ?_
                obtain ⟨m43, e_m43, h⟩ := bnd h
                refine G_iast F dX7_law_154 e_m43 ?_
                refine G_aload_n F dX7_law_155 rfl ?_
                obtain ⟨v44, e_v44, h⟩ := bnd h
                refine G_getR F okX7 (f := 36) (by decide) q1260 rfl dX7_law_156 e_v44 ?_
                refine G_iload_n F dX7_law_159 rfl ?_
                refine G_aload_n F dX7_law_160 rfl ?_
                obtain ⟨v45, e_v45, h⟩ := bnd h
                refine G_getR F okX7 (f := 31) (by decide) q1255 rfl dX7_law_161 e_v45 ?_
                refine G_iload_n F dX7_law_164 rfl ?_
                obtain ⟨v46, e_v46, h⟩ := bnd h
                refine G_iald F dX7_law_165 e_v46 ?_
                obtain ⟨m47, e_m47, h⟩ := bnd h
                refine G_iast F dX7_law_166 e_m47 ?_
                refine G_aload_n F dX7_law_167 rfl ?_
                obtain ⟨v48, e_v48, h⟩ := bnd h
                refine G_getR F okX7 (f := 37) (by decide) q1261 rfl dX7_law_168 e_v48 ?_
                refine G_iload_n F dX7_law_171 rfl ?_
                refine G_aload_n F dX7_law_172 rfl ?_
                obtain ⟨v49, e_v49, h⟩ := bnd h
                refine G_getR F okX7 (f := 32) (by decide) q1256 rfl dX7_law_173 e_v49 ?_
                refine G_iload_n F dX7_law_176 rfl ?_
                obtain ⟨v50, e_v50, h⟩ := bnd h
                refine G_iald F dX7_law_177 e_v50 ?_
                obtain ⟨m51, e_m51, h⟩ := bnd h
                refine G_iast F dX7_law_178 e_m51 ?_
                refine G_iinc F (v := (s3_33 + (1 : Int32))) (L2 := [some (.inr a0), none, none, some (.inl (s3_33 + (1 : Int32)))]) dX7_law_179 (by decide) rfl rfl rfl ?_
                refine G_goto F (tgt := 123) dX7_law_182 (by decide) ?_
                cases h
                exact G_sub F (L2 := [some (.inr a0), none, none, some (.inl (s3_33 + (1 : Int32)))]) ⟨rfl, ⟨rfl, trivial⟩⟩ (hP33 _ rfl)
            have hI := iter_ok (fun (s : (Int32 × Hp)) => match s with | (s3_33, m33) => G X cx 4 (Qm X cx (some (.inl rv)) m_ nx 0 0) (0) (0) m33 (nx) [some (.inr a0), none, none, some (.inl s3_33)] [] 123) (fun q => q = r33) KB33 _ _ _ hr33 rfl
            exact G_sub F (L2 := [some (.inr a0), none, none, some (.inl (0 : Int32))]) ⟨rfl, ⟨rfl, trivial⟩⟩ hI
          have KB25 : ∀ s o25, fX7_law_L95 a0 s = some o25 → (∀ s', o25 = Sum.inl s' → (fun (s : (Int32 × Hp)) => match s with | (s3_25, m25) => G X cx 4 (Qm X cx (some (.inl rv)) m_ nx 0 0) (0) (0) m25 (nx) [some (.inr a0), none, none, some (.inl s3_25)] [] 95) s') → (∀ q, o25 = Sum.inr q → q = r25) → (fun (s : (Int32 × Hp)) => match s with | (s3_25, m25) => G X cx 4 (Qm X cx (some (.inl rv)) m_ nx 0 0) (0) (0) m25 (nx) [some (.inr a0), none, none, some (.inl s3_25)] [] 95) s := by
            intro s o25 h hP25 hE25
            obtain ⟨s3_25, m25⟩ := s
            try dsimp only at hP25 hE25 ⊢
            refine G_iload_n F dX7_law_95 rfl ?_
            refine G_aload_n F dX7_law_96 rfl ?_
            obtain ⟨v26, e_v26, h⟩ := bnd h
            refine G_getI F okX7 (f := 23) (by decide) q1247 rfl dX7_law_97 e_v26 ?_
            refine G_icmp_ge F (tgt := 121) dX7_law_100 (by decide) (fun c27 => ?_) (fun c27 => ?_)
            · have h := itt c27 h
              cases h
              exact G_sub F (L2 := [some (.inr a0), none, none, none]) ⟨rfl, trivial⟩ (KE25 _ (hE25 _ rfl))
            · have h := itf c27 h
              refine G_aload_n F dX7_law_103 rfl ?_
              obtain ⟨v28, e_v28, h⟩ := bnd h
              refine G_getR F okX7 (f := 33) (by decide) q1257 rfl dX7_law_104 e_v28 ?_
              refine G_iload_n F dX7_law_107 rfl ?_
              refine G_aload_n F dX7_law_108 rfl ?_
              obtain ⟨v29, e_v29, h⟩ := bnd h
              refine G_getR F okX7 (f := 27) (by decide) q1251 rfl dX7_law_109 e_v29 ?_
              refine G_iload_n F dX7_law_112 rfl ?_
              obtain ⟨v30, e_v30, h⟩ := bnd h
              refine G_iald F dX7_law_113 e_v30 ?_
              obtain ⟨m31, e_m31, h⟩ := bnd h
              refine G_iast F dX7_law_114 e_m31 ?_
              refine G_iinc F (v := (s3_25 + (1 : Int32))) (L2 := [some (.inr a0), none, none, some (.inl (s3_25 + (1 : Int32)))]) dX7_law_115 (by decide) rfl rfl rfl ?_
              refine G_goto F (tgt := 95) dX7_law_118 (by decide) ?_
              cases h
              exact G_sub F (L2 := [some (.inr a0), none, none, some (.inl (s3_25 + (1 : Int32)))]) ⟨rfl, ⟨rfl, trivial⟩⟩ (hP25 _ rfl)
          have hI := iter_ok (fun (s : (Int32 × Hp)) => match s with | (s3_25, m25) => G X cx 4 (Qm X cx (some (.inl rv)) m_ nx 0 0) (0) (0) m25 (nx) [some (.inr a0), none, none, some (.inl s3_25)] [] 95) (fun q => q = r25) KB25 _ _ _ hr25 rfl
          exact G_sub F (L2 := [some (.inr a0), none, none, some (.inl (0 : Int32))]) ⟨rfl, ⟨rfl, trivial⟩⟩ hI
        · have h := itt c22 h
          refine G_aload_n F dX7_law_80 rfl ?_
          obtain ⟨v54, e_v54, h⟩ := bnd h
          refine G_getI F okX7 (f := 20) (by decide) q1244 rfl dX7_law_81 e_v54 ?_
          cases h
          exact G_iret F rfl (Nat.le_refl _) (Nat.le_refl _) rfl dX7_law_84
      have KB8 : ∀ s o8, fX7_law_L31 a0 s = some o8 → (∀ s', o8 = Sum.inl s' → (fun (s : (Int32 × Hp)) => match s with | (s2_8, m8) => G X cx 4 (Qm X cx (some (.inl rv)) m_ nx 0 0) (0) (0) m8 (nx) [some (.inr a0), none, some (.inl s2_8), none] [] 31) s') → (∀ q, o8 = Sum.inr q → q = r8) → (fun (s : (Int32 × Hp)) => match s with | (s2_8, m8) => G X cx 4 (Qm X cx (some (.inl rv)) m_ nx 0 0) (0) (0) m8 (nx) [some (.inr a0), none, some (.inl s2_8), none] [] 31) s := by
        intro s o8 h hP8 hE8
        obtain ⟨s2_8, m8⟩ := s
        try dsimp only at hP8 hE8 ⊢
        refine G_iload_n F dX7_law_31 rfl ?_
        refine G_if_eq F (tgt := 71) dX7_law_32 (by decide) (fun c9 => ?_) (fun c9 => ?_)
        · have h := itt c9 h
          cases h
          exact G_sub F (L2 := [some (.inr a0), none, some (.inl s2_8), none]) ⟨rfl, ⟨rfl, trivial⟩⟩ (KE8 _ _ (hE8 _ rfl))
        · have h := itf c9 h
          refine G_aload_n F dX7_law_35 rfl ?_
          obtain ⟨v10, e_v10, h⟩ := bnd h
          refine G_getI F okX7 (f := 18) (by decide) q1242 rfl dX7_law_36 e_v10 ?_
          refine G_aload_n F dX7_law_39 rfl ?_
          obtain ⟨v11, e_v11, h⟩ := bnd h
          refine G_getI F okX7 (f := 19) (by decide) q1243 rfl dX7_law_40 e_v11 ?_
          refine G_icmp_ge F (tgt := 71) dX7_law_43 (by decide) (fun c12 => ?_) (fun c12 => ?_)
          · have h := itt c12 h
            cases h
            exact G_sub F (L2 := [some (.inr a0), none, some (.inl s2_8), none]) ⟨rfl, ⟨rfl, trivial⟩⟩ (KE8 _ _ (hE8 _ rfl))
          · have h := itf c12 h
            refine G_aload_n F dX7_law_46 rfl ?_
            refine G_bipush F (v := (59 : Int32)) dX7_law_47 (by decide) ?_
            obtain ⟨⟨v13, m14⟩, e_v13, h⟩ := bnd h
            obtain ⟨hc_v13, e_v13⟩ := hp_on_of e_v13
            refine G_callVv F (As := [.inl (59 : Int32)]) (st := []) (metX7_takes X e_v13) hc_v13 rfl rfl (lw_V q1531 q1533 qs62 q109 q1534) hdfX7_takes ⟨by omega, by decide⟩ rfl (Nat.le_of_ble_eq_true rfl) ⟨by omega, by omega⟩ dX7_law_49 ?_
            refine G_if_eq F (tgt := 66) dX7_law_52 (by decide) (fun c15 => ?_) (fun c15 => ?_)
            · have h := itt c15 h
              refine G_iconst F (v := (0 : Int32)) dX7_law_66 (by decide) ?_
              refine G_istore_n F (L2 := [some (.inr a0), none, some (.inl (0 : Int32)), none]) dX7_law_67 (by decide) rfl ?_
              refine G_goto F (tgt := 31) dX7_law_68 (by decide) ?_
              cases h
              exact G_sub F (L2 := [some (.inr a0), none, some (.inl (0 : Int32)), none]) ⟨rfl, ⟨rfl, trivial⟩⟩ (hP8 _ rfl)
            · have h := itf c15 h
              refine G_aload_n F dX7_law_55 rfl ?_
              obtain ⟨⟨v16, m17⟩, e_v16, h⟩ := bnd h
              obtain ⟨hc_v16, e_v16⟩ := hp_on_of e_v16
              refine G_callVv F (As := []) (st := []) (metX7_readsRule X e_v16) hc_v16 rfl rfl (lw_V q1456 q1458 qs45 q109 q1459) hdfX7_readsRule ⟨by omega, by decide⟩ rfl (Nat.le_of_ble_eq_true rfl) ⟨by omega, by omega⟩ dX7_law_56 ?_
              refine G_if_eq F (tgt := 66) dX7_law_59 (by decide) (fun c18 => ?_) (fun c18 => ?_)
              · have h := itt c18 h
                refine G_iconst F (v := (0 : Int32)) dX7_law_66 (by decide) ?_
                refine G_istore_n F (L2 := [some (.inr a0), none, some (.inl (0 : Int32)), none]) dX7_law_67 (by decide) rfl ?_
                refine G_goto F (tgt := 31) dX7_law_68 (by decide) ?_
                cases h
                exact G_sub F (L2 := [some (.inr a0), none, some (.inl (0 : Int32)), none]) ⟨rfl, ⟨rfl, trivial⟩⟩ (hP8 _ rfl)
              · have h := itf c18 h
                refine G_iconst F (v := (1 : Int32)) dX7_law_62 (by decide) ?_
                refine G_goto F (tgt := 67) dX7_law_63 (by decide) ?_
                refine G_istore_n F (L2 := [some (.inr a0), none, some (.inl (1 : Int32)), none]) dX7_law_67 (by decide) rfl ?_
                refine G_goto F (tgt := 31) dX7_law_68 (by decide) ?_
                cases h
                exact G_sub F (L2 := [some (.inr a0), none, some (.inl (1 : Int32)), none]) ⟨rfl, ⟨rfl, trivial⟩⟩ (hP8 _ rfl)
      have hI := iter_ok (fun (s : (Int32 × Hp)) => match s with | (s2_8, m8) => G X cx 4 (Qm X cx (some (.inl rv)) m_ nx 0 0) (0) (0) m8 (nx) [some (.inr a0), none, some (.inl s2_8), none] [] 31) (fun q => q = r8) KB8 _ _ _ hr8 rfl
      exact G_sub F (L2 := [some (.inr a0), none, some (.inl v6), none]) ⟨rfl, ⟨rfl, trivial⟩⟩ hI
    · have h := itf c4 h
      refine G_iconst F (v := (-1 : Int32)) dX7_law_19 (by decide) ?_
      cases h
      exact G_iret F rfl (Nat.le_refl _) (Nat.le_refl _) rfl dX7_law_20

theorem metX7_reckon (X : Gx) {m : Hp} {nx : Nat} {a0 : Int32} {a1 : Int32} {a2 : Int32} {rv : Int32} (h : fX7_reckon a0 a1 a2 = some rv) : Con X (1) yX7_reckon cX7_reckon 3 ((Option.some FieldType.int)) [.inl a0, .inl a1, .inl a2] m nx (some (.inl rv)) m 0 0 := by
  refine Con.of (own := RX7) (nm := "reckon") (L := [some (.inl a0), some (.inl a1), some (.inl a2)]) (by decide +kernel) rfl rfl (Nat.le_of_ble_eq_true rfl) (ent_of 0 rfl) ?_
  intro cx F
  refine G_iload_n F dX7_reckon_0 rfl ?_
  by_cases c1 : a0 = (2 : Int32)
  · have h := itt c1 h
    refine G_tabIn F (tgt := 44) dX7_reckon_1 (by rw [c1]; decide) (by rw [c1]; decide) (by rw [c1]; rfl) (by decide) ?_
    refine G_iload_n F dX7_reckon_44 rfl ?_
    refine G_iload_n F dX7_reckon_45 rfl ?_
    refine G_iadd F dX7_reckon_46 ?_
    cases h
    exact G_iret F rfl (Nat.le_refl _) (Nat.le_refl _) rfl dX7_reckon_47
  have h := itf c1 h
  by_cases c2 : a0 = (3 : Int32)
  · have h := itt c2 h
    refine G_tabIn F (tgt := 48) dX7_reckon_1 (by rw [c2]; decide) (by rw [c2]; decide) (by rw [c2]; rfl) (by decide) ?_
    refine G_iload_n F dX7_reckon_48 rfl ?_
    refine G_iload_n F dX7_reckon_49 rfl ?_
    refine G_isub F dX7_reckon_50 ?_
    cases h
    exact G_iret F rfl (Nat.le_refl _) (Nat.le_refl _) rfl dX7_reckon_51
  have h := itf c2 h
  by_cases c3 : a0 = (4 : Int32)
  · have h := itt c3 h
    refine G_tabIn F (tgt := 52) dX7_reckon_1 (by rw [c3]; decide) (by rw [c3]; decide) (by rw [c3]; rfl) (by decide) ?_
    refine G_iload_n F dX7_reckon_52 rfl ?_
    refine G_iload_n F dX7_reckon_53 rfl ?_
    refine G_imul F dX7_reckon_54 ?_
    cases h
    exact G_iret F rfl (Nat.le_refl _) (Nat.le_refl _) rfl dX7_reckon_55
  have h := itf c3 h
  by_cases c4 : a0 = (5 : Int32)
  · have h := itt c4 h
    refine G_tabIn F (tgt := 56) dX7_reckon_1 (by rw [c4]; decide) (by rw [c4]; decide) (by rw [c4]; rfl) (by decide) ?_
    refine G_iload_n F dX7_reckon_56 rfl ?_
    refine G_iload_n F dX7_reckon_57 rfl ?_
    by_cases c5 : a2 = 0
    · exact absurd (itt c5 h) (by intro q; cases q)
    have h := itf c5 h
    refine G_idiv F c5 dX7_reckon_58 ?_
    cases h
    exact G_iret F rfl (Nat.le_refl _) (Nat.le_refl _) rfl dX7_reckon_59
  have h := itf c4 h
  by_cases c6 : a0 = (6 : Int32)
  · have h := itt c6 h
    refine G_tabIn F (tgt := 60) dX7_reckon_1 (by rw [c6]; decide) (by rw [c6]; decide) (by rw [c6]; rfl) (by decide) ?_
    refine G_iload_n F dX7_reckon_60 rfl ?_
    refine G_iload_n F dX7_reckon_61 rfl ?_
    by_cases c7 : a2 = 0
    · exact absurd (itt c7 h) (by intro q; cases q)
    have h := itf c7 h
    refine G_irem F c7 dX7_reckon_62 ?_
    cases h
    exact G_iret F rfl (Nat.le_refl _) (Nat.le_refl _) rfl dX7_reckon_63
  have h := itf c6 h
  by_cases c8 : a0 = (7 : Int32)
  · have h := itt c8 h
    refine G_tabIn F (tgt := 64) dX7_reckon_1 (by rw [c8]; decide) (by rw [c8]; decide) (by rw [c8]; rfl) (by decide) ?_
    refine G_iload_n F dX7_reckon_64 rfl ?_
    refine G_iload_n F dX7_reckon_65 rfl ?_
    refine G_icmp_ge F (tgt := 73) dX7_reckon_66 (by decide) (fun c9 => ?_) (fun c9 => ?_)
    · have h := itt c9 h
      refine G_iconst F (v := (0 : Int32)) dX7_reckon_73 (by decide) ?_
      cases h
      exact G_iret F rfl (Nat.le_refl _) (Nat.le_refl _) rfl dX7_reckon_74
    · have h := itf c9 h
      refine G_iconst F (v := (1 : Int32)) dX7_reckon_69 (by decide) ?_
      refine G_goto F (tgt := 74) dX7_reckon_70 (by decide) ?_
      cases h
      exact G_iret F rfl (Nat.le_refl _) (Nat.le_refl _) rfl dX7_reckon_74
  have h := itf c8 h
  by_cases c10 : a0 = (8 : Int32)
  · have h := itt c10 h
    refine G_tabIn F (tgt := 75) dX7_reckon_1 (by rw [c10]; decide) (by rw [c10]; decide) (by rw [c10]; rfl) (by decide) ?_
    refine G_iload_n F dX7_reckon_75 rfl ?_
    refine G_iload_n F dX7_reckon_76 rfl ?_
    refine G_icmp_le F (tgt := 84) dX7_reckon_77 (by decide) (fun c11 => ?_) (fun c11 => ?_)
    · have h := itt c11 h
      refine G_iconst F (v := (0 : Int32)) dX7_reckon_84 (by decide) ?_
      cases h
      exact G_iret F rfl (Nat.le_refl _) (Nat.le_refl _) rfl dX7_reckon_85
    · have h := itf c11 h
      refine G_iconst F (v := (1 : Int32)) dX7_reckon_80 (by decide) ?_
      refine G_goto F (tgt := 85) dX7_reckon_81 (by decide) ?_
      cases h
      exact G_iret F rfl (Nat.le_refl _) (Nat.le_refl _) rfl dX7_reckon_85
  have h := itf c10 h
  refine G_tabDef F (tgt := 86) dX7_reckon_1 [(2 : Int32), (3 : Int32), (4 : Int32), (5 : Int32), (6 : Int32), (7 : Int32), (8 : Int32)] (by decide) (by decide) (List.forall_mem_cons.mpr ⟨c1, List.forall_mem_cons.mpr ⟨c2, List.forall_mem_cons.mpr ⟨c3, List.forall_mem_cons.mpr ⟨c4, List.forall_mem_cons.mpr ⟨c6, List.forall_mem_cons.mpr ⟨c8, List.forall_mem_cons.mpr ⟨c10, fa_nil⟩⟩⟩⟩⟩⟩⟩) (by decide) ?_
  refine G_iload_n F dX7_reckon_86 rfl ?_
  refine G_iload_n F dX7_reckon_87 rfl ?_
  refine G_icmp_ne F (tgt := 95) dX7_reckon_88 (by decide) (fun c12 => ?_) (fun c12 => ?_)
  · have h := itf c12 h
    refine G_iconst F (v := (0 : Int32)) dX7_reckon_95 (by decide) ?_
    cases h
    exact G_iret F rfl (Nat.le_refl _) (Nat.le_refl _) rfl dX7_reckon_96
  · have h := itt c12 h
    refine G_iconst F (v := (1 : Int32)) dX7_reckon_91 (by decide) ?_
    refine G_goto F (tgt := 96) dX7_reckon_92 (by decide) ?_
    cases h
    exact G_iret F rfl (Nat.le_refl _) (Nat.le_refl _) rfl dX7_reckon_96
