set_option maxRecDepth 100000
set_option linter.unusedVariables false
theorem metX8_product (X : Gx) {dr : Nat} (hdr : 30 ≤ dr) {rec : Hp → Nat → Option Nat → Option ((Option Nat × Hp) × Nat × Nat)} (hrec : ∀ {m : Hp} {nx : Nat} {a0 : Option Nat} {rv : Option Nat} {m_ : Hp} {dc ds : Nat}, rec m nx a0 = some ((rv, m_), dc, ds) → Con X (dr) yX8_sum cX8_sum 4 (Option.some (FieldType.object "MissedTrains$Sum")) [.inr a0] m nx (some (.inr rv)) m_ dc ds) {m : Hp} {nx : Nat} {a0 : Option Nat} {rv : Option Nat} {m_ : Hp} {dc ds : Nat} (h : fX8_product rec m nx a0 = some ((rv, m_), dc, ds)) : Con X (dr + 2) yX8_product cX8_product 4 ((Option.some (FieldType.object "MissedTrains$Sum"))) [.inr a0] m nx (some (.inr rv)) m_ dc ds := by
  refine Con.of (own := RX8) (nm := "product") (L := [some (.inr a0), none, none, none]) (by decide +kernel) rfl rfl (Nat.le_of_ble_eq_true rfl) (ent_of 3 rfl) ?_
  intro cx F
  obtain ⟨m1, e_m1, h⟩ := bnd h
  obtain ⟨D2, C2, h, hD2, hC2⟩ := andA_of h; try dsimp only at hD2 hC2
  refine G_newc F okX10 (fs := dfX10) q579 q580 q118 (by decide) (by omega) (by omega) dX8_product_0 e_m1 ?_
  refine G_dup F dX8_product_3 ?_
  refine G_iconst F (v := (0 : Int32)) dX8_product_4 (by decide) ?_
  refine G_aload_n F dX8_product_5 rfl ?_
  obtain ⟨⟨⟨v3, m4⟩, d5, c6⟩, e_v3, h⟩ := bnd h
  obtain ⟨D7, C7, h, hD7, hC7⟩ := andA_of h; try dsimp only at hD7 hC7
  obtain ⟨hc_v3, e_v3⟩ := hp_on_of e_v3
  refine G_callVv F (As := []) (st := [.inl (0 : Int32), .inr (some (nx)), .inr (some (nx))]) (metX8_factor X hdr hrec e_v3) hc_v3 rfl rfl (lw_V q585 q587 qs7 q110 q588) hdfX8_factor ⟨by omega, by decide⟩ rfl (Nat.le_of_ble_eq_true rfl) ⟨by omega, by omega⟩ dX8_product_6 ?_
  obtain ⟨m8, e_m8, h⟩ := bnd h
  refine G_callI0 F (As := [.inl (0 : Int32), .inr v3]) (st := [.inr (some (nx))]) (metX10_init X e_m8) q631 q118 q629 q630 rfl hdfX10_init ⟨by omega, by decide⟩ rfl (Nat.le_of_ble_eq_true rfl) ⟨by omega, by omega⟩ dX8_product_9 ?_
  refine G_astore_n F (L2 := [some (.inr a0), some (.inr (some (nx))), none, none]) dX8_product_12 (by decide) rfl ?_
  refine G_aload_n F dX8_product_13 rfl ?_
  refine G_astore_n F (L2 := [some (.inr a0), some (.inr (some (nx))), some (.inr (some (nx))), none]) dX8_product_14 (by decide) rfl ?_
  obtain ⟨⟨r9, e9, f9⟩, hr9, h⟩ := bnd h
  obtain ⟨D34, C34, h, hD34, hC34⟩ := andA_of h; try dsimp only at hD34 hC34
  have KE9 : ∀ (m33 : Hp), m33 = r9 → G X cx 4 (Qm X cx (some (.inr rv)) m_ nx dc ds) (0 + 1 + d5 + e9) (0 + 3 + c6 + f9) m33 (nx + 1 + d5 + e9) [none, some (.inr (some (nx))), none, none] [] 88 := by
    intro m33 hq
    subst hq
    try dsimp only at h
    refine G_aload_n F dX8_product_88 rfl ?_
    cases h
    exact G_aret F rfl (by omega) (by omega) (by omega) dX8_product_89
  have KB9 : ∀ s nx9 k9 n9 o9 d9 c9, fX8_product_L15 rec a0 (some (nx)) s nx9 = some (o9, d9, c9) → k9 + d9 ≤ dc → n9 + c9 ≤ ds → (∀ s', o9 = Sum.inl s' → (fun (s : (Option Nat × Hp)) nx9 k9 n9 => match s with | (s2_9, m9) => G X cx 4 (Qm X cx (some (.inr rv)) m_ nx dc ds) (k9) (n9) m9 (nx9) [some (.inr a0), some (.inr (some (nx))), some (.inr s2_9), none] [] 15) s' (nx9 + d9) (k9 + d9) (n9 + c9)) → (∀ q, o9 = Sum.inr q → (fun q a_ b_ c_ => q = r9 ∧ a_ = nx + 1 + d5 + e9 ∧ b_ = 0 + 1 + d5 + e9 ∧ c_ = 0 + 3 + c6 + f9) q (nx9 + d9) (k9 + d9) (n9 + c9)) → (fun (s : (Option Nat × Hp)) nx9 k9 n9 => match s with | (s2_9, m9) => G X cx 4 (Qm X cx (some (.inr rv)) m_ nx dc ds) (k9) (n9) m9 (nx9) [some (.inr a0), some (.inr (some (nx))), some (.inr s2_9), none] [] 15) s nx9 k9 n9 := by
    intro s nx9 k9 n9 o9 d9 c9 h hk9 hn9 hP9 hE9
    obtain ⟨s2_9, m9⟩ := s
    try dsimp only at hP9 hE9 ⊢
    refine G_aload_n F dX8_product_15 rfl ?_
    obtain ⟨v10, e_v10, h⟩ := bnd h
    obtain ⟨hc_v10, e_v10⟩ := hp_on_of e_v10
    refine G_callVv F (As := []) (st := []) (metX8_isGood X e_v10) hc_v10 rfl rfl (lw_V q472 q474 qs1 q110 q475) hdfX8_isGood ⟨by omega, by decide⟩ rfl (Nat.le_of_ble_eq_true rfl) ⟨by omega, by omega⟩ dX8_product_16 ?_
    refine G_if_eq F (tgt := 88) dX8_product_19 (by decide) (fun c11 => ?_) (fun c11 => ?_)
    · have h := itt c11 h
      cases h
      obtain ⟨q0_, q1_, q2_, q3_⟩ := hE9 _ rfl
      exact G_cnt (G_sub F (L2 := [none, some (.inr (some (nx))), none, none]) ⟨rfl, trivial⟩ (KE9 _ q0_)) (by omega) (by omega) (by omega)
    · have h := itf c11 h
      refine G_aload_n F dX8_product_22 rfl ?_
      obtain ⟨v12, e_v12, h⟩ := bnd h
      obtain ⟨hc_v12, e_v12⟩ := hp_on_of e_v12
      refine G_callVv F (As := []) (st := []) (metX8_here X e_v12) hc_v12 rfl rfl (lw_V q480 q482 qs3 q110 q483) hdfX8_here ⟨by omega, by decide⟩ rfl (Nat.le_of_ble_eq_true rfl) ⟨by omega, by omega⟩ dX8_product_23 ?_
      refine G_bipush F (v := (42 : Int32)) dX8_product_26 (by decide) ?_
      obtain ⟨⟨p13, d13, c13⟩, hp13, h⟩ := bnd h
      obtain ⟨D14, C14, h, hD14, hC14⟩ := andA_of h; try dsimp only at hD14 hC14
      have K13 : ∀ (_ : Unit), Sum.inl () = p13 → G X cx 4 (Qm X cx (some (.inr rv)) m_ nx dc ds) (k9 + d13) (n9 + c13) m9 (nx9 + d13) [some (.inr a0), some (.inr (some (nx))), some (.inr s2_9), none] [] 49 := by
        intro _ hq
        subst hq
        try dsimp only at h
        refine G_aload_n F dX8_product_49 rfl ?_
        obtain ⟨v15, e_v15, h⟩ := bnd h
        obtain ⟨hc_v15, e_v15⟩ := hp_on_of e_v15
        refine G_callVv F (As := []) (st := []) (metX8_here X e_v15) hc_v15 rfl rfl (lw_V q480 q482 qs3 q110 q483) hdfX8_here ⟨by omega, by decide⟩ rfl (Nat.le_of_ble_eq_true rfl) ⟨by omega, by omega⟩ dX8_product_50 ?_
        refine G_istore_n F (L2 := [some (.inr a0), some (.inr (some (nx))), some (.inr s2_9), some (.inl v15)]) dX8_product_53 (by decide) rfl ?_
        refine G_aload_n F dX8_product_54 rfl ?_
        refine G_dup F dX8_product_55 ?_
        obtain ⟨v16, e_v16, h⟩ := bnd h
        refine G_getI F okX8 (f := 2) (by decide) q448 rfl dX8_product_56 e_v16 ?_
        refine G_iconst F (v := (1 : Int32)) dX8_product_59 (by decide) ?_
        refine G_iadd F dX8_product_60 ?_
        obtain ⟨m17, e_m17, h⟩ := bnd h
        refine G_putV F okX8 (f := 2) (by decide) q448 rfl rfl dX8_product_61 (vfit_int _) e_m17 ?_
        refine G_aload_n F dX8_product_64 rfl ?_
        obtain ⟨m18, e_m18, h⟩ := bnd h
        obtain ⟨D19, C19, h, hD19, hC19⟩ := andA_of h; try dsimp only at hD19 hC19
        refine G_newc F okX10 (fs := dfX10) q579 q580 q118 (by decide) (by omega) (by omega) dX8_product_65 e_m18 ?_
        refine G_dup F dX8_product_68 ?_
        refine G_iload_n F dX8_product_69 rfl ?_
        refine G_aload_n F dX8_product_70 rfl ?_
        obtain ⟨⟨⟨v20, m21⟩, d22, c23⟩, e_v20, h⟩ := bnd h
        obtain ⟨D24, C24, h, hD24, hC24⟩ := andA_of h; try dsimp only at hD24 hC24
        obtain ⟨hc_v20, e_v20⟩ := hp_on_of e_v20
        refine G_callVv F (As := []) (st := [.inl v15, .inr (some (nx9 + d13)), .inr (some (nx9 + d13)), .inr s2_9]) (metX8_factor X hdr hrec e_v20) hc_v20 rfl rfl (lw_V q585 q587 qs7 q110 q588) hdfX8_factor ⟨by omega, by decide⟩ rfl (Nat.le_of_ble_eq_true rfl) ⟨by omega, by omega⟩ dX8_product_71 ?_
        obtain ⟨m25, e_m25, h⟩ := bnd h
        refine G_callI0 F (As := [.inl v15, .inr v20]) (st := [.inr (some (nx9 + d13)), .inr s2_9]) (metX10_init X e_m25) q631 q118 q629 q630 rfl hdfX10_init ⟨by omega, by decide⟩ rfl (Nat.le_of_ble_eq_true rfl) ⟨by omega, by omega⟩ dX8_product_74 ?_
        obtain ⟨m26, e_m26, h⟩ := bnd h
        refine G_putVN F okX10 (f := 2) (by decide) q636 rfl rfl dX8_product_77 (vfit_obj _ _) e_m26 ?_
        refine G_aload_n F dX8_product_80 rfl ?_
        obtain ⟨v27, e_v27, h⟩ := bnd h
        refine G_getRN F okX10 (f := 2) (by decide) q636 rfl dX8_product_81 e_v27 ?_
        refine G_astore_n F (L2 := [some (.inr a0), some (.inr (some (nx))), some (.inr v27), some (.inl v15)]) dX8_product_84 (by decide) rfl ?_
        refine G_goto F (tgt := 15) dX8_product_85 (by decide) ?_
        cases h
        exact G_cnt (G_sub F (L2 := [some (.inr a0), some (.inr (some (nx))), some (.inr v27), none]) ⟨rfl, ⟨rfl, ⟨rfl, trivial⟩⟩⟩ (hP9 _ rfl)) (by omega) (by omega) (by omega)
      have K13o : ∀ o, Sum.inr o = p13 → some (o, 0, 0) = some (o9, D14, C14) := by
        intro o hq
        subst hq
        exact h
      have h := hp13
      clear hp13
      refine G_icmp_eq F (tgt := 49) dX8_product_28 (by decide) (fun c28 => ?_) (fun c28 => ?_)
      · have h := itt c28 h
        obtain ⟨hq_, hd_, hc_⟩ := lf3 h
        exact G_cnt (G_sub F (L2 := [some (.inr a0), some (.inr (some (nx))), some (.inr s2_9), none]) ⟨rfl, ⟨rfl, ⟨rfl, trivial⟩⟩⟩ (K13 () hq_)) (by omega) (by omega) (by omega)
      · have h := itf c28 h
        refine G_aload_n F dX8_product_31 rfl ?_
        obtain ⟨v29, e_v29, h⟩ := bnd h
        obtain ⟨hc_v29, e_v29⟩ := hp_on_of e_v29
        refine G_callVv F (As := []) (st := []) (metX8_here X e_v29) hc_v29 rfl rfl (lw_V q480 q482 qs3 q110 q483) hdfX8_here ⟨by omega, by decide⟩ rfl (Nat.le_of_ble_eq_true rfl) ⟨by omega, by omega⟩ dX8_product_32 ?_
        refine G_bipush F (v := (47 : Int32)) dX8_product_35 (by decide) ?_
        refine G_icmp_eq F (tgt := 49) dX8_product_37 (by decide) (fun c30 => ?_) (fun c30 => ?_)
        · have h := itt c30 h
          obtain ⟨hq_, hd_, hc_⟩ := lf3 h
          exact G_cnt (G_sub F (L2 := [some (.inr a0), some (.inr (some (nx))), some (.inr s2_9), none]) ⟨rfl, ⟨rfl, ⟨rfl, trivial⟩⟩⟩ (K13 () hq_)) (by omega) (by omega) (by omega)
        · have h := itf c30 h
          refine G_aload_n F dX8_product_40 rfl ?_
          obtain ⟨v31, e_v31, h⟩ := bnd h
          obtain ⟨hc_v31, e_v31⟩ := hp_on_of e_v31
          refine G_callVv F (As := []) (st := []) (metX8_here X e_v31) hc_v31 rfl rfl (lw_V q480 q482 qs3 q110 q483) hdfX8_here ⟨by omega, by decide⟩ rfl (Nat.le_of_ble_eq_true rfl) ⟨by omega, by omega⟩ dX8_product_41 ?_
          refine G_bipush F (v := (37 : Int32)) dX8_product_44 (by decide) ?_
          refine G_icmp_ne F (tgt := 88) dX8_product_46 (by decide) (fun c32 => ?_) (fun c32 => ?_)
          · have h := itf c32 h
            obtain ⟨hq_, hd_, hc_⟩ := lf3 h
            have h := K13o _ hq_
            cases h
            obtain ⟨q0_, q1_, q2_, q3_⟩ := hE9 _ rfl
            exact G_cnt (G_sub F (L2 := [none, some (.inr (some (nx))), none, none]) ⟨rfl, trivial⟩ (KE9 _ q0_)) (by omega) (by omega) (by omega)
          · have h := itt c32 h
            obtain ⟨hq_, hd_, hc_⟩ := lf3 h
            exact G_cnt (G_sub F (L2 := [some (.inr a0), some (.inr (some (nx))), some (.inr s2_9), none]) ⟨rfl, ⟨rfl, ⟨rfl, trivial⟩⟩⟩ (K13 () hq_)) (by omega) (by omega) (by omega)
  have hI := iterA_ok dc ds (fun (s : (Option Nat × Hp)) nx9 k9 n9 => match s with | (s2_9, m9) => G X cx 4 (Qm X cx (some (.inr rv)) m_ nx dc ds) (k9) (n9) m9 (nx9) [some (.inr a0), some (.inr (some (nx))), some (.inr s2_9), none] [] 15) (fun q a_ b_ c_ => q = r9 ∧ a_ = nx + 1 + d5 + e9 ∧ b_ = 0 + 1 + d5 + e9 ∧ c_ = 0 + 3 + c6 + f9) KB9 _ _ _ _ _ _ _ _ hr9 (by omega) (by omega) ⟨rfl, rfl, rfl, rfl⟩
  exact G_sub F (L2 := [some (.inr a0), some (.inr (some (nx))), some (.inr (some (nx))), none]) ⟨rfl, ⟨rfl, ⟨rfl, trivial⟩⟩⟩ hI

theorem metX8_sumB (X : Gx) {dr : Nat} (hdr : 30 ≤ dr) {rec : Hp → Nat → Option Nat → Option ((Option Nat × Hp) × Nat × Nat)} (hrec : ∀ {m : Hp} {nx : Nat} {a0 : Option Nat} {rv : Option Nat} {m_ : Hp} {dc ds : Nat}, rec m nx a0 = some ((rv, m_), dc, ds) → Con X (dr) yX8_sum cX8_sum 4 (Option.some (FieldType.object "MissedTrains$Sum")) [.inr a0] m nx (some (.inr rv)) m_ dc ds) {m : Hp} {nx : Nat} {a0 : Option Nat} {rv : Option Nat} {m_ : Hp} {dc ds : Nat} (h : fX8_sumB rec m nx a0 = some ((rv, m_), dc, ds)) : Con X (dr + 3) yX8_sum cX8_sum 4 ((Option.some (FieldType.object "MissedTrains$Sum"))) [.inr a0] m nx (some (.inr rv)) m_ dc ds := by
  refine Con.of (own := RX8) (nm := "sum") (L := [some (.inr a0), none, none, none]) (by decide +kernel) rfl rfl (Nat.le_of_ble_eq_true rfl) (ent_of 3 rfl) ?_
  intro cx F
  obtain ⟨m1, e_m1, h⟩ := bnd h
  obtain ⟨D2, C2, h, hD2, hC2⟩ := andA_of h; try dsimp only at hD2 hC2
  refine G_newc F okX10 (fs := dfX10) q579 q580 q118 (by decide) (by omega) (by omega) dX8_sum_0 e_m1 ?_
  refine G_dup F dX8_sum_3 ?_
  refine G_iconst F (v := (0 : Int32)) dX8_sum_4 (by decide) ?_
  refine G_aload_n F dX8_sum_5 rfl ?_
  obtain ⟨⟨⟨v3, m4⟩, d5, c6⟩, e_v3, h⟩ := bnd h
  obtain ⟨D7, C7, h, hD7, hC7⟩ := andA_of h; try dsimp only at hD7 hC7
  obtain ⟨hc_v3, e_v3⟩ := hp_on_of e_v3
  refine G_callVv F (As := []) (st := [.inl (0 : Int32), .inr (some (nx)), .inr (some (nx))]) (metX8_product X hdr hrec e_v3) hc_v3 rfl rfl (lw_V q581 q583 qs6 q110 q584) hdfX8_product ⟨by omega, by decide⟩ rfl (Nat.le_of_ble_eq_true rfl) ⟨by omega, by omega⟩ dX8_sum_6 ?_
  obtain ⟨m8, e_m8, h⟩ := bnd h
  refine G_callI0 F (As := [.inl (0 : Int32), .inr v3]) (st := [.inr (some (nx))]) (metX10_init X e_m8) q631 q118 q629 q630 rfl hdfX10_init ⟨by omega, by decide⟩ rfl (Nat.le_of_ble_eq_true rfl) ⟨by omega, by omega⟩ dX8_sum_9 ?_
  refine G_astore_n F (L2 := [some (.inr a0), some (.inr (some (nx))), none, none]) dX8_sum_12 (by decide) rfl ?_
  refine G_aload_n F dX8_sum_13 rfl ?_
  refine G_astore_n F (L2 := [some (.inr a0), some (.inr (some (nx))), some (.inr (some (nx))), none]) dX8_sum_14 (by decide) rfl ?_
  obtain ⟨⟨r9, e9, f9⟩, hr9, h⟩ := bnd h
  obtain ⟨D32, C32, h, hD32, hC32⟩ := andA_of h; try dsimp only at hD32 hC32
  have KE9 : ∀ (m31 : Hp), m31 = r9 → G X cx 4 (Qm X cx (some (.inr rv)) m_ nx dc ds) (0 + 1 + d5 + e9) (0 + 3 + c6 + f9) m31 (nx + 1 + d5 + e9) [none, some (.inr (some (nx))), none, none] [] 79 := by
    intro m31 hq
    subst hq
    try dsimp only at h
    refine G_aload_n F dX8_sum_79 rfl ?_
    cases h
    exact G_aret F rfl (by omega) (by omega) (by omega) dX8_sum_80
  have KB9 : ∀ s nx9 k9 n9 o9 d9 c9, fX8_sumB_L15 rec a0 (some (nx)) s nx9 = some (o9, d9, c9) → k9 + d9 ≤ dc → n9 + c9 ≤ ds → (∀ s', o9 = Sum.inl s' → (fun (s : (Option Nat × Hp)) nx9 k9 n9 => match s with | (s2_9, m9) => G X cx 4 (Qm X cx (some (.inr rv)) m_ nx dc ds) (k9) (n9) m9 (nx9) [some (.inr a0), some (.inr (some (nx))), some (.inr s2_9), none] [] 15) s' (nx9 + d9) (k9 + d9) (n9 + c9)) → (∀ q, o9 = Sum.inr q → (fun q a_ b_ c_ => q = r9 ∧ a_ = nx + 1 + d5 + e9 ∧ b_ = 0 + 1 + d5 + e9 ∧ c_ = 0 + 3 + c6 + f9) q (nx9 + d9) (k9 + d9) (n9 + c9)) → (fun (s : (Option Nat × Hp)) nx9 k9 n9 => match s with | (s2_9, m9) => G X cx 4 (Qm X cx (some (.inr rv)) m_ nx dc ds) (k9) (n9) m9 (nx9) [some (.inr a0), some (.inr (some (nx))), some (.inr s2_9), none] [] 15) s nx9 k9 n9 := by
    intro s nx9 k9 n9 o9 d9 c9 h hk9 hn9 hP9 hE9
    obtain ⟨s2_9, m9⟩ := s
    try dsimp only at hP9 hE9 ⊢
    refine G_aload_n F dX8_sum_15 rfl ?_
    obtain ⟨v10, e_v10, h⟩ := bnd h
    obtain ⟨hc_v10, e_v10⟩ := hp_on_of e_v10
    refine G_callVv F (As := []) (st := []) (metX8_isGood X e_v10) hc_v10 rfl rfl (lw_V q472 q474 qs1 q110 q475) hdfX8_isGood ⟨by omega, by decide⟩ rfl (Nat.le_of_ble_eq_true rfl) ⟨by omega, by omega⟩ dX8_sum_16 ?_
    refine G_if_eq F (tgt := 79) dX8_sum_19 (by decide) (fun c11 => ?_) (fun c11 => ?_)
    · have h := itt c11 h
      cases h
      obtain ⟨q0_, q1_, q2_, q3_⟩ := hE9 _ rfl
      exact G_cnt (G_sub F (L2 := [none, some (.inr (some (nx))), none, none]) ⟨rfl, trivial⟩ (KE9 _ q0_)) (by omega) (by omega) (by omega)
    · have h := itf c11 h
      refine G_aload_n F dX8_sum_22 rfl ?_
      obtain ⟨v12, e_v12, h⟩ := bnd h
      obtain ⟨hc_v12, e_v12⟩ := hp_on_of e_v12
      refine G_callVv F (As := []) (st := []) (metX8_here X e_v12) hc_v12 rfl rfl (lw_V q480 q482 qs3 q110 q483) hdfX8_here ⟨by omega, by decide⟩ rfl (Nat.le_of_ble_eq_true rfl) ⟨by omega, by omega⟩ dX8_sum_23 ?_
      refine G_bipush F (v := (43 : Int32)) dX8_sum_26 (by decide) ?_
      obtain ⟨⟨p13, d13, c13⟩, hp13, h⟩ := bnd h
      obtain ⟨D14, C14, h, hD14, hC14⟩ := andA_of h; try dsimp only at hD14 hC14
      have K13 : ∀ (_ : Unit), Sum.inl () = p13 → G X cx 4 (Qm X cx (some (.inr rv)) m_ nx dc ds) (k9 + d13) (n9 + c13) m9 (nx9 + d13) [some (.inr a0), some (.inr (some (nx))), some (.inr s2_9), none] [] 40 := by
        intro _ hq
        subst hq
        try dsimp only at h
        refine G_aload_n F dX8_sum_40 rfl ?_
        obtain ⟨v15, e_v15, h⟩ := bnd h
        obtain ⟨hc_v15, e_v15⟩ := hp_on_of e_v15
        refine G_callVv F (As := []) (st := []) (metX8_here X e_v15) hc_v15 rfl rfl (lw_V q480 q482 qs3 q110 q483) hdfX8_here ⟨by omega, by decide⟩ rfl (Nat.le_of_ble_eq_true rfl) ⟨by omega, by omega⟩ dX8_sum_41 ?_
        refine G_istore_n F (L2 := [some (.inr a0), some (.inr (some (nx))), some (.inr s2_9), some (.inl v15)]) dX8_sum_44 (by decide) rfl ?_
        refine G_aload_n F dX8_sum_45 rfl ?_
        refine G_dup F dX8_sum_46 ?_
        obtain ⟨v16, e_v16, h⟩ := bnd h
        refine G_getI F okX8 (f := 2) (by decide) q448 rfl dX8_sum_47 e_v16 ?_
        refine G_iconst F (v := (1 : Int32)) dX8_sum_50 (by decide) ?_
        refine G_iadd F dX8_sum_51 ?_
        obtain ⟨m17, e_m17, h⟩ := bnd h
        refine G_putV F okX8 (f := 2) (by decide) q448 rfl rfl dX8_sum_52 (vfit_int _) e_m17 ?_
        refine G_aload_n F dX8_sum_55 rfl ?_
        obtain ⟨m18, e_m18, h⟩ := bnd h
        obtain ⟨D19, C19, h, hD19, hC19⟩ := andA_of h; try dsimp only at hD19 hC19
        refine G_newc F okX10 (fs := dfX10) q579 q580 q118 (by decide) (by omega) (by omega) dX8_sum_56 e_m18 ?_
        refine G_dup F dX8_sum_59 ?_
        refine G_iload_n F dX8_sum_60 rfl ?_
        refine G_aload_n F dX8_sum_61 rfl ?_
        obtain ⟨⟨⟨v20, m21⟩, d22, c23⟩, e_v20, h⟩ := bnd h
        obtain ⟨D24, C24, h, hD24, hC24⟩ := andA_of h; try dsimp only at hD24 hC24
        obtain ⟨hc_v20, e_v20⟩ := hp_on_of e_v20
        refine G_callVv F (As := []) (st := [.inl v15, .inr (some (nx9 + d13)), .inr (some (nx9 + d13)), .inr s2_9]) (metX8_product X hdr hrec e_v20) hc_v20 rfl rfl (lw_V q581 q583 qs6 q110 q584) hdfX8_product ⟨by omega, by decide⟩ rfl (Nat.le_of_ble_eq_true rfl) ⟨by omega, by omega⟩ dX8_sum_62 ?_
        obtain ⟨m25, e_m25, h⟩ := bnd h
        refine G_callI0 F (As := [.inl v15, .inr v20]) (st := [.inr (some (nx9 + d13)), .inr s2_9]) (metX10_init X e_m25) q631 q118 q629 q630 rfl hdfX10_init ⟨by omega, by decide⟩ rfl (Nat.le_of_ble_eq_true rfl) ⟨by omega, by omega⟩ dX8_sum_65 ?_
        obtain ⟨m26, e_m26, h⟩ := bnd h
        refine G_putVN F okX10 (f := 2) (by decide) q636 rfl rfl dX8_sum_68 (vfit_obj _ _) e_m26 ?_
        refine G_aload_n F dX8_sum_71 rfl ?_
        obtain ⟨v27, e_v27, h⟩ := bnd h
        refine G_getRN F okX10 (f := 2) (by decide) q636 rfl dX8_sum_72 e_v27 ?_
        refine G_astore_n F (L2 := [some (.inr a0), some (.inr (some (nx))), some (.inr v27), some (.inl v15)]) dX8_sum_75 (by decide) rfl ?_
        refine G_goto F (tgt := 15) dX8_sum_76 (by decide) ?_
        cases h
        exact G_cnt (G_sub F (L2 := [some (.inr a0), some (.inr (some (nx))), some (.inr v27), none]) ⟨rfl, ⟨rfl, ⟨rfl, trivial⟩⟩⟩ (hP9 _ rfl)) (by omega) (by omega) (by omega)
      have K13o : ∀ o, Sum.inr o = p13 → some (o, 0, 0) = some (o9, D14, C14) := by
        intro o hq
        subst hq
        exact h
      have h := hp13
      clear hp13
      refine G_icmp_eq F (tgt := 40) dX8_sum_28 (by decide) (fun c28 => ?_) (fun c28 => ?_)
      · have h := itt c28 h
        obtain ⟨hq_, hd_, hc_⟩ := lf3 h
        exact G_cnt (G_sub F (L2 := [some (.inr a0), some (.inr (some (nx))), some (.inr s2_9), none]) ⟨rfl, ⟨rfl, ⟨rfl, trivial⟩⟩⟩ (K13 () hq_)) (by omega) (by omega) (by omega)
      · have h := itf c28 h
        refine G_aload_n F dX8_sum_31 rfl ?_
        obtain ⟨v29, e_v29, h⟩ := bnd h
        obtain ⟨hc_v29, e_v29⟩ := hp_on_of e_v29
        refine G_callVv F (As := []) (st := []) (metX8_here X e_v29) hc_v29 rfl rfl (lw_V q480 q482 qs3 q110 q483) hdfX8_here ⟨by omega, by decide⟩ rfl (Nat.le_of_ble_eq_true rfl) ⟨by omega, by omega⟩ dX8_sum_32 ?_
        refine G_bipush F (v := (45 : Int32)) dX8_sum_35 (by decide) ?_
        refine G_icmp_ne F (tgt := 79) dX8_sum_37 (by decide) (fun c30 => ?_) (fun c30 => ?_)
        · have h := itf c30 h
          obtain ⟨hq_, hd_, hc_⟩ := lf3 h
          have h := K13o _ hq_
          cases h
          obtain ⟨q0_, q1_, q2_, q3_⟩ := hE9 _ rfl
          exact G_cnt (G_sub F (L2 := [none, some (.inr (some (nx))), none, none]) ⟨rfl, trivial⟩ (KE9 _ q0_)) (by omega) (by omega) (by omega)
        · have h := itt c30 h
          obtain ⟨hq_, hd_, hc_⟩ := lf3 h
          exact G_cnt (G_sub F (L2 := [some (.inr a0), some (.inr (some (nx))), some (.inr s2_9), none]) ⟨rfl, ⟨rfl, ⟨rfl, trivial⟩⟩⟩ (K13 () hq_)) (by omega) (by omega) (by omega)
  have hI := iterA_ok dc ds (fun (s : (Option Nat × Hp)) nx9 k9 n9 => match s with | (s2_9, m9) => G X cx 4 (Qm X cx (some (.inr rv)) m_ nx dc ds) (k9) (n9) m9 (nx9) [some (.inr a0), some (.inr (some (nx))), some (.inr s2_9), none] [] 15) (fun q a_ b_ c_ => q = r9 ∧ a_ = nx + 1 + d5 + e9 ∧ b_ = 0 + 1 + d5 + e9 ∧ c_ = 0 + 3 + c6 + f9) KB9 _ _ _ _ _ _ _ _ hr9 (by omega) (by omega) ⟨rfl, rfl, rfl, rfl⟩
  exact G_sub F (L2 := [some (.inr a0), some (.inr (some (nx))), some (.inr (some (nx))), none]) ⟨rfl, ⟨rfl, ⟨rfl, trivial⟩⟩⟩ hI

theorem con_sum (X : Gx) : ∀ (n : Nat), ∀ {m : Hp} {nx : Nat} {a0 : Option Nat} {rv : Option Nat} {m_ : Hp} {dc ds : Nat}, fX8_sum n m nx a0 = some ((rv, m_), dc, ds) → Con X (30 + 3 * n) yX8_sum cX8_sum 4 (Option.some (FieldType.object "MissedTrains$Sum")) [.inr a0] m nx (some (.inr rv)) m_ dc ds := by
  intro n
  induction n with
  | zero => intro _ _ _  _ _ _ _ h; cases h
  | succ n ih => intro _ _ _  _ _ _ _ h; exact metX8_sumB X (dr := 30 + 3 * n) (by omega) ih h

theorem metX13_init (X : Gx) (m : Hp) (nx a0 : Nat) : Con X 2 yX13_init cX13_init 1 ((none : Option FieldType)) [.inr (some a0)] m nx none m 0 0 := by
  refine Con.of (own := RX13) (nm := "<init>") (L := [some (.inr (some a0))]) (by decide +kernel) rfl rfl (Nat.le_of_ble_eq_true rfl) (ent_of 0 rfl) ?_
  intro cx F
  refine G_aload_n F dX13_init_0 rfl ?_
  refine G_objInit F q666 q134 q135 (by omega) (Nat.le_of_ble_eq_true rfl) dX13_init_1 ?_
  exact G_vret F rfl (Nat.le_refl _) (Nat.le_refl _) rfl dX13_init_4

theorem metX14_init (X : Gx) {m : Hp} {nx : Nat} {a0 : Nat} {a1 : Option Nat} {a2 : Int32} {m_ : Hp} (h : fX14_init m a0 a1 a2 = some m_) : Con X (3) yX14_init cX14_init 3 ((none : Option FieldType)) [.inr (some a0), .inr a1, .inl a2] m nx none m_ 0 0 := by
  refine Con.of (own := RX14) (nm := "<init>") (L := [some (.inr (some a0)), some (.inr a1), some (.inl a2)]) (by decide +kernel) rfl rfl (Nat.le_of_ble_eq_true rfl) (ent_of 0 rfl) ?_
  intro cx F
  refine G_aload_n F dX14_init_0 rfl ?_
  refine G_callIN0 F (As := []) (st := []) (metX13_init X _ _ _) q665 q121 q690 q664 rfl hdfX13_init ⟨by omega, by decide⟩ rfl (Nat.le_of_ble_eq_true rfl) ⟨by omega, by omega⟩ dX14_init_1 ?_
  refine G_aload_n F dX14_init_4 rfl ?_
  refine G_aload_n F dX14_init_5 rfl ?_
  obtain ⟨m1, e_m1, h⟩ := bnd h
  refine G_putVF F okX14 (f := 0) (by decide) q691 rfl rfl rfl dX14_init_6 (vfit_obj _ _) e_m1 ?_
  refine G_aload_n F dX14_init_9 rfl ?_
  refine G_iload_n F dX14_init_10 rfl ?_
  obtain ⟨m2, e_m2, h⟩ := bnd h
  refine G_putVF F okX14 (f := 1) (by decide) q692 rfl rfl rfl dX14_init_11 (vfit_int _) e_m2 ?_
  cases h
  exact G_vret F rfl (Nat.le_refl _) (Nat.le_refl _) rfl dX14_init_14

theorem metX8_pieces (X : Gx) {dr : Nat} (hdr : 240 ≤ dr) {rec : Hp → Nat → Option Nat → Option ((Option Nat × Hp) × Nat × Nat)} (hrec : ∀ {m : Hp} {nx : Nat} {a0 : Option Nat} {rv : Option Nat} {m_ : Hp} {dc ds : Nat}, rec m nx a0 = some ((rv, m_), dc, ds) → Con X (dr) yX8_piece cX8_piece 4 (Option.some (FieldType.object "MissedTrains$Condition")) [.inr a0] m nx (some (.inr rv)) m_ dc ds) {m : Hp} {nx : Nat} {a0 : Option Nat} {rv : Option Nat} {m_ : Hp} {dc ds : Nat} (h : fX8_pieces rec m nx a0 = some ((rv, m_), dc, ds)) : Con X (dr + 1) yX8_pieces cX8_pieces 3 ((Option.some (FieldType.object "MissedTrains$Condition"))) [.inr a0] m nx (some (.inr rv)) m_ dc ds := by
  refine Con.of (own := RX8) (nm := "pieces") (L := [some (.inr a0), none, none]) (by decide +kernel) rfl rfl (Nat.le_of_ble_eq_true rfl) (ent_of 2 rfl) ?_
  intro cx F
  obtain ⟨m1, e_m1, h⟩ := bnd h
  obtain ⟨D2, C2, h, hD2, hC2⟩ := andA_of h; try dsimp only at hD2 hC2
  refine G_newc F okX14 (fs := dfX14) q648 q649 q122 (by decide) (by omega) (by omega) dX8_pieces_0 e_m1 ?_
  refine G_dup F dX8_pieces_3 ?_
  refine G_aload_n F dX8_pieces_4 rfl ?_
  obtain ⟨⟨⟨v3, m4⟩, d5, c6⟩, e_v3, h⟩ := bnd h
  obtain ⟨D7, C7, h, hD7, hC7⟩ := andA_of h; try dsimp only at hD7 hC7
  obtain ⟨hc_v3, e_v3⟩ := hp_on_of e_v3
  refine G_callVv F (As := []) (st := [.inr (some (nx)), .inr (some (nx))]) (hrec e_v3) hc_v3 rfl rfl (lw_V q654 q656 qs14 q110 q657) hdfX8_pieceB ⟨by omega, by decide⟩ rfl (Nat.le_of_ble_eq_true rfl) ⟨by omega, by omega⟩ dX8_pieces_5 ?_
  refine G_iconst F (v := (0 : Int32)) dX8_pieces_8 (by decide) ?_
  obtain ⟨m8, e_m8, h⟩ := bnd h
  refine G_callI0 F (As := [.inr v3, .inl (0 : Int32)]) (st := [.inr (some (nx))]) (metX14_init X e_m8) q689 q122 q687 q688 rfl hdfX14_init ⟨by omega, by decide⟩ rfl (Nat.le_of_ble_eq_true rfl) ⟨by omega, by omega⟩ dX8_pieces_9 ?_
  refine G_astore_n F (L2 := [some (.inr a0), some (.inr (some (nx))), none]) dX8_pieces_12 (by decide) rfl ?_
  refine G_aload_n F dX8_pieces_13 rfl ?_
  refine G_astore_n F (L2 := [some (.inr a0), some (.inr (some (nx))), some (.inr (some (nx)))]) dX8_pieces_14 (by decide) rfl ?_
  obtain ⟨⟨r9, e9, f9⟩, hr9, h⟩ := bnd h
  obtain ⟨D27, C27, h, hD27, hC27⟩ := andA_of h; try dsimp only at hD27 hC27
  have KE9 : ∀ (m26 : Hp), m26 = r9 → G X cx 3 (Qm X cx (some (.inr rv)) m_ nx dc ds) (0 + 1 + d5 + e9) (0 + 3 + c6 + f9) m26 (nx + 1 + d5 + e9) [none, some (.inr (some (nx))), none] [] 65 := by
    intro m26 hq
    subst hq
    try dsimp only at h
    refine G_aload_n F dX8_pieces_65 rfl ?_
    cases h
    exact G_aret F rfl (by omega) (by omega) (by omega) dX8_pieces_66
  have KB9 : ∀ s nx9 k9 n9 o9 d9 c9, fX8_pieces_L15 rec a0 (some (nx)) s nx9 = some (o9, d9, c9) → k9 + d9 ≤ dc → n9 + c9 ≤ ds → (∀ s', o9 = Sum.inl s' → (fun (s : (Option Nat × Hp)) nx9 k9 n9 => match s with | (s2_9, m9) => G X cx 3 (Qm X cx (some (.inr rv)) m_ nx dc ds) (k9) (n9) m9 (nx9) [some (.inr a0), some (.inr (some (nx))), some (.inr s2_9)] [] 15) s' (nx9 + d9) (k9 + d9) (n9 + c9)) → (∀ q, o9 = Sum.inr q → (fun q a_ b_ c_ => q = r9 ∧ a_ = nx + 1 + d5 + e9 ∧ b_ = 0 + 1 + d5 + e9 ∧ c_ = 0 + 3 + c6 + f9) q (nx9 + d9) (k9 + d9) (n9 + c9)) → (fun (s : (Option Nat × Hp)) nx9 k9 n9 => match s with | (s2_9, m9) => G X cx 3 (Qm X cx (some (.inr rv)) m_ nx dc ds) (k9) (n9) m9 (nx9) [some (.inr a0), some (.inr (some (nx))), some (.inr s2_9)] [] 15) s nx9 k9 n9 := by
    intro s nx9 k9 n9 o9 d9 c9 h hk9 hn9 hP9 hE9
    obtain ⟨s2_9, m9⟩ := s
    try dsimp only at hP9 hE9 ⊢
    refine G_aload_n F dX8_pieces_15 rfl ?_
    obtain ⟨v10, e_v10, h⟩ := bnd h
    obtain ⟨hc_v10, e_v10⟩ := hp_on_of e_v10
    refine G_callVv F (As := []) (st := []) (metX8_isGood X e_v10) hc_v10 rfl rfl (lw_V q472 q474 qs1 q110 q475) hdfX8_isGood ⟨by omega, by decide⟩ rfl (Nat.le_of_ble_eq_true rfl) ⟨by omega, by omega⟩ dX8_pieces_16 ?_
    refine G_if_eq F (tgt := 65) dX8_pieces_19 (by decide) (fun c11 => ?_) (fun c11 => ?_)
    · have h := itt c11 h
      cases h
      obtain ⟨q0_, q1_, q2_, q3_⟩ := hE9 _ rfl
      exact G_cnt (G_sub F (L2 := [none, some (.inr (some (nx))), none]) ⟨rfl, trivial⟩ (KE9 _ q0_)) (by omega) (by omega) (by omega)
    · have h := itf c11 h
      refine G_aload_n F dX8_pieces_22 rfl ?_
      obtain ⟨v12, e_v12, h⟩ := bnd h
      obtain ⟨hc_v12, e_v12⟩ := hp_on_of e_v12
      refine G_callVv F (As := []) (st := []) (metX8_here X e_v12) hc_v12 rfl rfl (lw_V q480 q482 qs3 q110 q483) hdfX8_here ⟨by omega, by decide⟩ rfl (Nat.le_of_ble_eq_true rfl) ⟨by omega, by omega⟩ dX8_pieces_23 ?_
      refine G_bipush F (v := (38 : Int32)) dX8_pieces_26 (by decide) ?_
      refine G_icmp_ne F (tgt := 65) dX8_pieces_28 (by decide) (fun c13 => ?_) (fun c13 => ?_)
      · have h := itf c13 h
        cases h
        obtain ⟨q0_, q1_, q2_, q3_⟩ := hE9 _ rfl
        exact G_cnt (G_sub F (L2 := [none, some (.inr (some (nx))), none]) ⟨rfl, trivial⟩ (KE9 _ q0_)) (by omega) (by omega) (by omega)
      · have h := itt c13 h
        refine G_aload_n F dX8_pieces_31 rfl ?_
        refine G_dup F dX8_pieces_32 ?_
        obtain ⟨v14, e_v14, h⟩ := bnd h
        refine G_getI F okX8 (f := 2) (by decide) q448 rfl dX8_pieces_33 e_v14 ?_
        refine G_iconst F (v := (1 : Int32)) dX8_pieces_36 (by decide) ?_
        refine G_iadd F dX8_pieces_37 ?_
        obtain ⟨m15, e_m15, h⟩ := bnd h
        refine G_putV F okX8 (f := 2) (by decide) q448 rfl rfl dX8_pieces_38 (vfit_int _) e_m15 ?_
        refine G_aload_n F dX8_pieces_41 rfl ?_
        obtain ⟨m16, e_m16, h⟩ := bnd h
        obtain ⟨D17, C17, h, hD17, hC17⟩ := andA_of h; try dsimp only at hD17 hC17
        refine G_newc F okX14 (fs := dfX14) q648 q649 q122 (by decide) (by omega) (by omega) dX8_pieces_42 e_m16 ?_
        refine G_dup F dX8_pieces_45 ?_
        refine G_aload_n F dX8_pieces_46 rfl ?_
        obtain ⟨⟨⟨v18, m19⟩, d20, c21⟩, e_v18, h⟩ := bnd h
        obtain ⟨D22, C22, h, hD22, hC22⟩ := andA_of h; try dsimp only at hD22 hC22
        obtain ⟨hc_v18, e_v18⟩ := hp_on_of e_v18
        refine G_callVv F (As := []) (st := [.inr (some (nx9)), .inr (some (nx9)), .inr s2_9]) (hrec e_v18) hc_v18 rfl rfl (lw_V q654 q656 qs14 q110 q657) hdfX8_pieceB ⟨by omega, by decide⟩ rfl (Nat.le_of_ble_eq_true rfl) ⟨by omega, by omega⟩ dX8_pieces_47 ?_
        refine G_iconst F (v := (0 : Int32)) dX8_pieces_50 (by decide) ?_
        obtain ⟨m23, e_m23, h⟩ := bnd h
        refine G_callI0 F (As := [.inr v18, .inl (0 : Int32)]) (st := [.inr (some (nx9)), .inr s2_9]) (metX14_init X e_m23) q689 q122 q687 q688 rfl hdfX14_init ⟨by omega, by decide⟩ rfl (Nat.le_of_ble_eq_true rfl) ⟨by omega, by omega⟩ dX8_pieces_51 ?_
        obtain ⟨m24, e_m24, h⟩ := bnd h
        refine G_putVN F okX14 (f := 2) (by decide) q694 rfl rfl dX8_pieces_54 (vfit_obj _ _) e_m24 ?_
        refine G_aload_n F dX8_pieces_57 rfl ?_
        obtain ⟨v25, e_v25, h⟩ := bnd h
        refine G_getRN F okX14 (f := 2) (by decide) q694 rfl dX8_pieces_58 e_v25 ?_
        refine G_astore_n F (L2 := [some (.inr a0), some (.inr (some (nx))), some (.inr v25)]) dX8_pieces_61 (by decide) rfl ?_
        refine G_goto F (tgt := 15) dX8_pieces_62 (by decide) ?_
        cases h
        exact G_cnt (G_sub F (L2 := [some (.inr a0), some (.inr (some (nx))), some (.inr v25)]) ⟨rfl, ⟨rfl, ⟨rfl, trivial⟩⟩⟩ (hP9 _ rfl)) (by omega) (by omega) (by omega)
  have hI := iterA_ok dc ds (fun (s : (Option Nat × Hp)) nx9 k9 n9 => match s with | (s2_9, m9) => G X cx 3 (Qm X cx (some (.inr rv)) m_ nx dc ds) (k9) (n9) m9 (nx9) [some (.inr a0), some (.inr (some (nx))), some (.inr s2_9)] [] 15) (fun q a_ b_ c_ => q = r9 ∧ a_ = nx + 1 + d5 + e9 ∧ b_ = 0 + 1 + d5 + e9 ∧ c_ = 0 + 3 + c6 + f9) KB9 _ _ _ _ _ _ _ _ hr9 (by omega) (by omega) ⟨rfl, rfl, rfl, rfl⟩
  exact G_sub F (L2 := [some (.inr a0), some (.inr (some (nx))), some (.inr (some (nx)))]) ⟨rfl, ⟨rfl, ⟨rfl, trivial⟩⟩⟩ hI

theorem metX8_condition (X : Gx) {dr : Nat} (hdr : 240 ≤ dr) {rec : Hp → Nat → Option Nat → Option ((Option Nat × Hp) × Nat × Nat)} (hrec : ∀ {m : Hp} {nx : Nat} {a0 : Option Nat} {rv : Option Nat} {m_ : Hp} {dc ds : Nat}, rec m nx a0 = some ((rv, m_), dc, ds) → Con X (dr) yX8_piece cX8_piece 4 (Option.some (FieldType.object "MissedTrains$Condition")) [.inr a0] m nx (some (.inr rv)) m_ dc ds) {m : Hp} {nx : Nat} {a0 : Option Nat} {rv : Option Nat} {m_ : Hp} {dc ds : Nat} (h : fX8_condition rec m nx a0 = some ((rv, m_), dc, ds)) : Con X (dr + 2) yX8_condition cX8_condition 3 ((Option.some (FieldType.object "MissedTrains$Condition"))) [.inr a0] m nx (some (.inr rv)) m_ dc ds := by
  refine Con.of (own := RX8) (nm := "condition") (L := [some (.inr a0), none, none]) (by decide +kernel) rfl rfl (Nat.le_of_ble_eq_true rfl) (ent_of 2 rfl) ?_
  intro cx F
  refine G_aload_n F dX8_condition_0 rfl ?_
  obtain ⟨m1, e_m1, h⟩ := bnd h
  obtain ⟨hc_m1, e_m1⟩ := hp_on_of e_m1
  refine G_callV0 F (As := []) (st := []) (metX8_opens X e_m1) hc_m1 rfl rfl (lw_V q589 q591 qs8 q110 q592) hdfX8_opens ⟨by omega, by decide⟩ rfl (Nat.le_of_ble_eq_true rfl) ⟨by omega, by omega⟩ dX8_condition_1 ?_
  refine G_aload_n F dX8_condition_4 rfl ?_
  obtain ⟨v2, e_v2, h⟩ := bnd h
  obtain ⟨hc_v2, e_v2⟩ := hp_on_of e_v2
  refine G_callVv F (As := []) (st := []) (metX8_isGood X e_v2) hc_v2 rfl rfl (lw_V q472 q474 qs1 q110 q475) hdfX8_isGood ⟨by omega, by decide⟩ rfl (Nat.le_of_ble_eq_true rfl) ⟨by omega, by omega⟩ dX8_condition_5 ?_
  obtain ⟨⟨p5, d5, c5⟩, hp5, h⟩ := bnd h
  obtain ⟨D6, C6, h, hD6, hC6⟩ := andA_of h; try dsimp only at hD6 hC6
  have K5 : ∀ (v3 : Option Nat) (m4 : Hp), (v3, m4) = p5 → G X cx 3 (Qm X cx (some (.inr rv)) m_ nx dc ds) (0 + d5) (0 + c5) m4 (nx + d5) [some (.inr a0), none, none] [.inr v3] 27 := by
    intro v3 m4 hq
    subst hq
    try dsimp only at h
    refine G_astore_n F (L2 := [some (.inr a0), some (.inr v3), none]) dX8_condition_27 (by decide) rfl ?_
    refine G_aload_n F dX8_condition_28 rfl ?_
    refine G_astore_n F (L2 := [some (.inr a0), some (.inr v3), some (.inr v3)]) dX8_condition_29 (by decide) rfl ?_
    obtain ⟨⟨r7, e7, f7⟩, hr7, h⟩ := bnd h
    obtain ⟨D25, C25, h, hD25, hC25⟩ := andA_of h; try dsimp only at hD25 hC25
    have KE7 : ∀ (m24 : Hp), m24 = r7 → G X cx 3 (Qm X cx (some (.inr rv)) m_ nx dc ds) (0 + d5 + e7) (0 + c5 + f7) m24 (nx + d5 + e7) [some (.inr a0), some (.inr v3), none] [] 80 := by
      intro m24 hq
      subst hq
      try dsimp only at h
      refine G_aload_n F dX8_condition_80 rfl ?_
      obtain ⟨v26, e_v26, h⟩ := bnd h
      obtain ⟨hc_v26, e_v26⟩ := hp_on_of e_v26
      refine G_callVv F (As := []) (st := []) (metX8_isGood X e_v26) hc_v26 rfl rfl (lw_V q472 q474 qs1 q110 q475) hdfX8_isGood ⟨by omega, by decide⟩ rfl (Nat.le_of_ble_eq_true rfl) ⟨by omega, by omega⟩ dX8_condition_81 ?_
      obtain ⟨⟨p28, d28, c28⟩, hp28, h⟩ := bnd h
      obtain ⟨D29, C29, h, hD29, hC29⟩ := andA_of h; try dsimp only at hD29 hC29
      have K28 : ∀ (m27 : Hp), m27 = p28 → G X cx 3 (Qm X cx (some (.inr rv)) m_ nx dc ds) (0 + d5 + e7 + d28) (0 + c5 + f7 + c28) m27 (nx + d5 + e7 + d28) [some (.inr a0), some (.inr v3), none] [] 93 := by
        intro m27 hq
        subst hq
        try dsimp only at h
        refine G_aload_n F dX8_condition_93 rfl ?_
        refine G_dup F dX8_condition_94 ?_
        obtain ⟨v30, e_v30, h⟩ := bnd h
        refine G_getI F okX8 (f := 3) (by decide) q449 rfl dX8_condition_95 e_v30 ?_
        refine G_iconst F (v := (1 : Int32)) dX8_condition_98 (by decide) ?_
        refine G_isub F dX8_condition_99 ?_
        obtain ⟨m31, e_m31, h⟩ := bnd h
        refine G_putV F okX8 (f := 3) (by decide) q449 rfl rfl dX8_condition_100 (vfit_int _) e_m31 ?_
        refine G_aload_n F dX8_condition_103 rfl ?_
        cases h
        exact G_aret F rfl (by omega) (by omega) (by omega) dX8_condition_104
      have h := hp28
      clear hp28
      refine G_if_eq F (tgt := 93) dX8_condition_84 (by decide) (fun c32 => ?_) (fun c32 => ?_)
      · have h := itt c32 h
        obtain ⟨hq_, hd_, hc_⟩ := lf3 h
        exact G_cnt (G_sub F (L2 := [some (.inr a0), some (.inr v3), none]) ⟨rfl, ⟨rfl, trivial⟩⟩ (K28 _ hq_)) (by omega) (by omega) (by omega)
      · have h := itf c32 h
        refine G_aload_n F dX8_condition_87 rfl ?_
        refine G_bipush F (v := (41 : Int32)) dX8_condition_88 (by decide) ?_
        obtain ⟨m33, e_m33, h⟩ := bnd h
        obtain ⟨hc_m33, e_m33⟩ := hp_on_of e_m33
        refine G_callV0 F (As := [.inl (41 : Int32)]) (st := []) (metX8_must X e_m33) hc_m33 rfl rfl (lw_V q593 q595 qs9 q110 q596) hdfX8_must ⟨by omega, by decide⟩ rfl (Nat.le_of_ble_eq_true rfl) ⟨by omega, by omega⟩ dX8_condition_90 ?_
        obtain ⟨hq_, hd_, hc_⟩ := lf3 h
        exact G_cnt (G_sub F (L2 := [some (.inr a0), some (.inr v3), none]) ⟨rfl, ⟨rfl, trivial⟩⟩ (K28 _ hq_)) (by omega) (by omega) (by omega)
    have KB7 : ∀ s nx7 k7 n7 o7 d7 c7, fX8_condition_L30 rec a0 v3 s nx7 = some (o7, d7, c7) → k7 + d7 ≤ dc → n7 + c7 ≤ ds → (∀ s', o7 = Sum.inl s' → (fun (s : (Option Nat × Hp)) nx7 k7 n7 => match s with | (s2_7, m7) => G X cx 3 (Qm X cx (some (.inr rv)) m_ nx dc ds) (k7) (n7) m7 (nx7) [some (.inr a0), some (.inr v3), some (.inr s2_7)] [] 30) s' (nx7 + d7) (k7 + d7) (n7 + c7)) → (∀ q, o7 = Sum.inr q → (fun q a_ b_ c_ => q = r7 ∧ a_ = nx + d5 + e7 ∧ b_ = 0 + d5 + e7 ∧ c_ = 0 + c5 + f7) q (nx7 + d7) (k7 + d7) (n7 + c7)) → (fun (s : (Option Nat × Hp)) nx7 k7 n7 => match s with | (s2_7, m7) => G X cx 3 (Qm X cx (some (.inr rv)) m_ nx dc ds) (k7) (n7) m7 (nx7) [some (.inr a0), some (.inr v3), some (.inr s2_7)] [] 30) s nx7 k7 n7 := by
      intro s nx7 k7 n7 o7 d7 c7 h hk7 hn7 hP7 hE7
      obtain ⟨s2_7, m7⟩ := s
      try dsimp only at hP7 hE7 ⊢
      refine G_aload_n F dX8_condition_30 rfl ?_
      obtain ⟨v8, e_v8, h⟩ := bnd h
      obtain ⟨hc_v8, e_v8⟩ := hp_on_of e_v8
      refine G_callVv F (As := []) (st := []) (metX8_isGood X e_v8) hc_v8 rfl rfl (lw_V q472 q474 qs1 q110 q475) hdfX8_isGood ⟨by omega, by decide⟩ rfl (Nat.le_of_ble_eq_true rfl) ⟨by omega, by omega⟩ dX8_condition_31 ?_
      refine G_if_eq F (tgt := 80) dX8_condition_34 (by decide) (fun c9 => ?_) (fun c9 => ?_)
      · have h := itt c9 h
        cases h
        obtain ⟨q0_, q1_, q2_, q3_⟩ := hE7 _ rfl
        exact G_cnt (G_sub F (L2 := [some (.inr a0), some (.inr v3), none]) ⟨rfl, ⟨rfl, trivial⟩⟩ (KE7 _ q0_)) (by omega) (by omega) (by omega)
      · have h := itf c9 h
        refine G_aload_n F dX8_condition_37 rfl ?_
        obtain ⟨v10, e_v10, h⟩ := bnd h
        obtain ⟨hc_v10, e_v10⟩ := hp_on_of e_v10
        refine G_callVv F (As := []) (st := []) (metX8_here X e_v10) hc_v10 rfl rfl (lw_V q480 q482 qs3 q110 q483) hdfX8_here ⟨by omega, by decide⟩ rfl (Nat.le_of_ble_eq_true rfl) ⟨by omega, by omega⟩ dX8_condition_38 ?_
        refine G_bipush F (v := (124 : Int32)) dX8_condition_41 (by decide) ?_
        refine G_icmp_ne F (tgt := 80) dX8_condition_43 (by decide) (fun c11 => ?_) (fun c11 => ?_)
        · have h := itf c11 h
          cases h
          obtain ⟨q0_, q1_, q2_, q3_⟩ := hE7 _ rfl
          exact G_cnt (G_sub F (L2 := [some (.inr a0), some (.inr v3), none]) ⟨rfl, ⟨rfl, trivial⟩⟩ (KE7 _ q0_)) (by omega) (by omega) (by omega)
        · have h := itt c11 h
          refine G_aload_n F dX8_condition_46 rfl ?_
          refine G_dup F dX8_condition_47 ?_
          obtain ⟨v12, e_v12, h⟩ := bnd h
          refine G_getI F okX8 (f := 2) (by decide) q448 rfl dX8_condition_48 e_v12 ?_
          refine G_iconst F (v := (1 : Int32)) dX8_condition_51 (by decide) ?_
          refine G_iadd F dX8_condition_52 ?_
          obtain ⟨m13, e_m13, h⟩ := bnd h
          refine G_putV F okX8 (f := 2) (by decide) q448 rfl rfl dX8_condition_53 (vfit_int _) e_m13 ?_
          refine G_aload_n F dX8_condition_56 rfl ?_
          obtain ⟨m14, e_m14, h⟩ := bnd h
          obtain ⟨D15, C15, h, hD15, hC15⟩ := andA_of h; try dsimp only at hD15 hC15
          refine G_newc F okX14 (fs := dfX14) q648 q649 q122 (by decide) (by omega) (by omega) dX8_condition_57 e_m14 ?_
          refine G_dup F dX8_condition_60 ?_
          refine G_aload_n F dX8_condition_61 rfl ?_
          obtain ⟨⟨⟨v16, m17⟩, d18, c19⟩, e_v16, h⟩ := bnd h
          obtain ⟨D20, C20, h, hD20, hC20⟩ := andA_of h; try dsimp only at hD20 hC20
          obtain ⟨hc_v16, e_v16⟩ := hp_on_of e_v16
          refine G_callVv F (As := []) (st := [.inr (some (nx7)), .inr (some (nx7)), .inr s2_7]) (metX8_pieces X hdr hrec e_v16) hc_v16 rfl rfl (lw_V q650 q652 qs13 q110 q653) hdfX8_pieces ⟨by omega, by decide⟩ rfl (Nat.le_of_ble_eq_true rfl) ⟨by omega, by omega⟩ dX8_condition_62 ?_
          refine G_iconst F (v := (1 : Int32)) dX8_condition_65 (by decide) ?_
          obtain ⟨m21, e_m21, h⟩ := bnd h
          refine G_callI0 F (As := [.inr v16, .inl (1 : Int32)]) (st := [.inr (some (nx7)), .inr s2_7]) (metX14_init X e_m21) q689 q122 q687 q688 rfl hdfX14_init ⟨by omega, by decide⟩ rfl (Nat.le_of_ble_eq_true rfl) ⟨by omega, by omega⟩ dX8_condition_66 ?_
          obtain ⟨m22, e_m22, h⟩ := bnd h
          refine G_putVN F okX14 (f := 2) (by decide) q694 rfl rfl dX8_condition_69 (vfit_obj _ _) e_m22 ?_
          refine G_aload_n F dX8_condition_72 rfl ?_
          obtain ⟨v23, e_v23, h⟩ := bnd h
          refine G_getRN F okX14 (f := 2) (by decide) q694 rfl dX8_condition_73 e_v23 ?_
          refine G_astore_n F (L2 := [some (.inr a0), some (.inr v3), some (.inr v23)]) dX8_condition_76 (by decide) rfl ?_
          refine G_goto F (tgt := 30) dX8_condition_77 (by decide) ?_
          cases h
          exact G_cnt (G_sub F (L2 := [some (.inr a0), some (.inr v3), some (.inr v23)]) ⟨rfl, ⟨rfl, ⟨rfl, trivial⟩⟩⟩ (hP7 _ rfl)) (by omega) (by omega) (by omega)
    have hI := iterA_ok dc ds (fun (s : (Option Nat × Hp)) nx7 k7 n7 => match s with | (s2_7, m7) => G X cx 3 (Qm X cx (some (.inr rv)) m_ nx dc ds) (k7) (n7) m7 (nx7) [some (.inr a0), some (.inr v3), some (.inr s2_7)] [] 30) (fun q a_ b_ c_ => q = r7 ∧ a_ = nx + d5 + e7 ∧ b_ = 0 + d5 + e7 ∧ c_ = 0 + c5 + f7) KB7 _ _ _ _ _ _ _ _ hr7 (by omega) (by omega) ⟨rfl, rfl, rfl, rfl⟩
    exact G_sub F (L2 := [some (.inr a0), some (.inr v3), some (.inr v3)]) ⟨rfl, ⟨rfl, ⟨rfl, trivial⟩⟩⟩ hI
  have h := hp5
  clear hp5
  refine G_if_eq F (tgt := 26) dX8_condition_8 (by decide) (fun c34 => ?_) (fun c34 => ?_)
  · have h := itt c34 h
    refine G_null F dX8_condition_26 ?_
    obtain ⟨hq_, hd_, hc_⟩ := lf3 h
    exact G_cnt (G_sub F (L2 := [some (.inr a0), none, none]) ⟨rfl, trivial⟩ (K5 _ _ hq_)) (by omega) (by omega) (by omega)
  · have h := itf c34 h
    obtain ⟨m35, e_m35, h⟩ := bnd h
    obtain ⟨D36, C36, h, hD36, hC36⟩ := andA_of h; try dsimp only at hD36 hC36
    refine G_newc F okX14 (fs := dfX14) q648 q649 q122 (by decide) (by omega) (by omega) dX8_condition_11 e_m35 ?_
    refine G_dup F dX8_condition_14 ?_
    refine G_aload_n F dX8_condition_15 rfl ?_
    obtain ⟨⟨⟨v37, m38⟩, d39, c40⟩, e_v37, h⟩ := bnd h
    obtain ⟨D41, C41, h, hD41, hC41⟩ := andA_of h; try dsimp only at hD41 hC41
    obtain ⟨hc_v37, e_v37⟩ := hp_on_of e_v37
    refine G_callVv F (As := []) (st := [.inr (some (nx)), .inr (some (nx))]) (metX8_pieces X hdr hrec e_v37) hc_v37 rfl rfl (lw_V q650 q652 qs13 q110 q653) hdfX8_pieces ⟨by omega, by decide⟩ rfl (Nat.le_of_ble_eq_true rfl) ⟨by omega, by omega⟩ dX8_condition_16 ?_
    refine G_iconst F (v := (1 : Int32)) dX8_condition_19 (by decide) ?_
    obtain ⟨m42, e_m42, h⟩ := bnd h
    refine G_callI0 F (As := [.inr v37, .inl (1 : Int32)]) (st := [.inr (some (nx))]) (metX14_init X e_m42) q689 q122 q687 q688 rfl hdfX14_init ⟨by omega, by decide⟩ rfl (Nat.le_of_ble_eq_true rfl) ⟨by omega, by omega⟩ dX8_condition_20 ?_
    refine G_goto F (tgt := 27) dX8_condition_23 (by decide) ?_
    obtain ⟨hq_, hd_, hc_⟩ := lf3 h
    exact G_cnt (G_sub F (L2 := [some (.inr a0), none, none]) ⟨rfl, trivial⟩ (K5 _ _ hq_)) (by omega) (by omega) (by omega)

theorem metX15_init (X : Gx) {m : Hp} {nx : Nat} {a0 : Nat} {a1 : Option Nat} {m_ : Hp} (h : fX15_init m a0 a1 = some m_) : Con X (3) yX15_init cX15_init 2 ((none : Option FieldType)) [.inr (some a0), .inr a1] m nx none m_ 0 0 := by
  refine Con.of (own := RX15) (nm := "<init>") (L := [some (.inr (some a0)), some (.inr a1)]) (by decide +kernel) rfl rfl (Nat.le_of_ble_eq_true rfl) (ent_of 0 rfl) ?_
  intro cx F
  refine G_aload_n F dX15_init_0 rfl ?_
  refine G_callIN0 F (As := []) (st := []) (metX13_init X _ _ _) q665 q121 q663 q664 rfl hdfX13_init ⟨by omega, by decide⟩ rfl (Nat.le_of_ble_eq_true rfl) ⟨by omega, by omega⟩ dX15_init_1 ?_
  refine G_aload_n F dX15_init_4 rfl ?_
  refine G_aload_n F dX15_init_5 rfl ?_
  obtain ⟨m1, e_m1, h⟩ := bnd h
  refine G_putVF F okX15 (f := 0) (by decide) q667 rfl rfl rfl dX15_init_6 (vfit_obj _ _) e_m1 ?_
  cases h
  exact G_vret F rfl (Nat.le_refl _) (Nat.le_refl _) rfl dX15_init_9

theorem metX16_init (X : Gx) {m : Hp} {nx : Nat} {a0 : Nat} {a1 : Option Nat} {a2 : Int32} {a3 : Option Nat} {m_ : Hp} (h : fX16_init m a0 a1 a2 a3 = some m_) : Con X (3) yX16_init cX16_init 4 ((none : Option FieldType)) [.inr (some a0), .inr a1, .inl a2, .inr a3] m nx none m_ 0 0 := by
  refine Con.of (own := RX16) (nm := "<init>") (L := [some (.inr (some a0)), some (.inr a1), some (.inl a2), some (.inr a3)]) (by decide +kernel) rfl rfl (Nat.le_of_ble_eq_true rfl) (ent_of 0 rfl) ?_
  intro cx F
  refine G_aload_n F dX16_init_0 rfl ?_
  refine G_callIN0 F (As := []) (st := []) (metX13_init X _ _ _) q665 q121 q676 q664 rfl hdfX13_init ⟨by omega, by decide⟩ rfl (Nat.le_of_ble_eq_true rfl) ⟨by omega, by omega⟩ dX16_init_1 ?_
  refine G_aload_n F dX16_init_4 rfl ?_
  refine G_aload_n F dX16_init_5 rfl ?_
  obtain ⟨m1, e_m1, h⟩ := bnd h
  refine G_putVF F okX16 (f := 0) (by decide) q677 rfl rfl rfl dX16_init_6 (vfit_obj _ _) e_m1 ?_
  refine G_aload_n F dX16_init_9 rfl ?_
  refine G_iload_n F dX16_init_10 rfl ?_
  obtain ⟨m2, e_m2, h⟩ := bnd h
  refine G_putVF F okX16 (f := 2) (by decide) q679 rfl rfl rfl dX16_init_11 (vfit_int _) e_m2 ?_
  refine G_aload_n F dX16_init_14 rfl ?_
  refine G_aload_n F dX16_init_15 rfl ?_
  obtain ⟨m3, e_m3, h⟩ := bnd h
  refine G_putVF F okX16 (f := 1) (by decide) q678 rfl rfl rfl dX16_init_16 (vfit_obj _ _) e_m3 ?_
  cases h
  exact G_vret F rfl (Nat.le_refl _) (Nat.le_refl _) rfl dX16_init_19

theorem metX8_pieceB (X : Gx) {dr : Nat} (hdr : 240 ≤ dr) {rec : Hp → Nat → Option Nat → Option ((Option Nat × Hp) × Nat × Nat)} (hrec : ∀ {m : Hp} {nx : Nat} {a0 : Option Nat} {rv : Option Nat} {m_ : Hp} {dc ds : Nat}, rec m nx a0 = some ((rv, m_), dc, ds) → Con X (dr) yX8_piece cX8_piece 4 (Option.some (FieldType.object "MissedTrains$Condition")) [.inr a0] m nx (some (.inr rv)) m_ dc ds) {m : Hp} {nx : Nat} {a0 : Option Nat} {rv : Option Nat} {m_ : Hp} {dc ds : Nat} (h : fX8_pieceB rec m nx a0 = some ((rv, m_), dc, ds)) : Con X (dr + 3) yX8_piece cX8_piece 4 ((Option.some (FieldType.object "MissedTrains$Condition"))) [.inr a0] m nx (some (.inr rv)) m_ dc ds := by
  refine Con.of (own := RX8) (nm := "piece") (L := [some (.inr a0), none, none, none]) (by decide +kernel) rfl rfl (Nat.le_of_ble_eq_true rfl) (ent_of 3 rfl) ?_
  intro cx F
  refine G_aload_n F dX8_piece_0 rfl ?_
  obtain ⟨v1, e_v1, h⟩ := bnd h
  obtain ⟨hc_v1, e_v1⟩ := hp_on_of e_v1
  refine G_callVv F (As := []) (st := []) (metX8_here X e_v1) hc_v1 rfl rfl (lw_V q480 q482 qs3 q110 q483) hdfX8_here ⟨by omega, by decide⟩ rfl (Nat.le_of_ble_eq_true rfl) ⟨by omega, by omega⟩ dX8_piece_1 ?_
  refine G_istore_n F (L2 := [some (.inr a0), some (.inl v1), none, none]) dX8_piece_4 (by decide) rfl ?_
  refine G_iload_n F dX8_piece_5 rfl ?_
  refine G_bipush F (v := (33 : Int32)) dX8_piece_6 (by decide) ?_
  refine G_icmp_ne F (tgt := 50) dX8_piece_8 (by decide) (fun c2 => ?_) (fun c2 => ?_)
  · have h := itf c2 h
    refine G_iload_n F dX8_piece_50 rfl ?_
    refine G_bipush F (v := (40 : Int32)) dX8_piece_51 (by decide) ?_
    refine G_icmp_ne F (tgt := 61) dX8_piece_53 (by decide) (fun c3 => ?_) (fun c3 => ?_)
    · have h := itf c3 h
      refine G_aload_n F dX8_piece_61 rfl ?_
      obtain ⟨⟨⟨v4, m5⟩, d6, c7⟩, e_v4, h⟩ := bnd h
      obtain ⟨D8, C8, h, hD8, hC8⟩ := andA_of h; try dsimp only at hD8 hC8
      obtain ⟨hc_v4, e_v4⟩ := hp_on_of e_v4
      refine G_callVv F (As := []) (st := []) (con_sum X 60 e_v4) hc_v4 rfl rfl (lw_V q575 q577 qs5 q110 q578) hdfX8_sumB ⟨by omega, by decide⟩ rfl (Nat.le_of_ble_eq_true rfl) ⟨by omega, by omega⟩ dX8_piece_62 ?_
      refine G_astore_n F (L2 := [some (.inr a0), some (.inl v1), some (.inr v4), none]) dX8_piece_65 (by decide) rfl ?_
      refine G_aload_n F dX8_piece_66 rfl ?_
      obtain ⟨v9, e_v9, h⟩ := bnd h
      obtain ⟨hc_v9, e_v9⟩ := hp_on_of e_v9
      refine G_callVv F (As := []) (st := []) (metX8_here X e_v9) hc_v9 rfl rfl (lw_V q480 q482 qs3 q110 q483) hdfX8_here ⟨by omega, by decide⟩ rfl (Nat.le_of_ble_eq_true rfl) ⟨by omega, by omega⟩ dX8_piece_67 ?_
      refine G_istore_n F (L2 := [some (.inr a0), some (.inl v1), some (.inr v4), some (.inl v9)]) dX8_piece_70 (by decide) rfl ?_
      refine G_iload_n F dX8_piece_71 rfl ?_
      refine G_bipush F (v := (60 : Int32)) dX8_piece_72 (by decide) ?_
      obtain ⟨⟨p11, d11, c11⟩, hp11, h⟩ := bnd h
      obtain ⟨D12, C12, h, hD12, hC12⟩ := andA_of h; try dsimp only at hD12 hC12
      have K11 : ∀ (m10 : Hp), m10 = p11 → G X cx 4 (Qm X cx (some (.inr rv)) m_ nx dc ds) (0 + d6 + d11) (0 + c7 + c11) m10 (nx + d6 + d11) [some (.inr a0), none, some (.inr v4), some (.inl v9)] [] 98 := by
        intro m10 hq
        subst hq
        try dsimp only at h
        refine G_aload_n F dX8_piece_98 rfl ?_
        refine G_dup F dX8_piece_99 ?_
        obtain ⟨v13, e_v13, h⟩ := bnd h
        refine G_getI F okX8 (f := 2) (by decide) q448 rfl dX8_piece_100 e_v13 ?_
        refine G_iconst F (v := (1 : Int32)) dX8_piece_103 (by decide) ?_
        refine G_iadd F dX8_piece_104 ?_
        obtain ⟨m14, e_m14, h⟩ := bnd h
        refine G_putV F okX8 (f := 2) (by decide) q448 rfl rfl dX8_piece_105 (vfit_int _) e_m14 ?_
        obtain ⟨m15, e_m15, h⟩ := bnd h
        obtain ⟨D16, C16, h, hD16, hC16⟩ := andA_of h; try dsimp only at hD16 hC16
        refine G_newc F okX16 (fs := dfX16) q671 q672 q124 (by decide) (by omega) (by omega) dX8_piece_108 e_m15 ?_
        refine G_dup F dX8_piece_111 ?_
        refine G_aload_n F dX8_piece_112 rfl ?_
        refine G_iload_n F dX8_piece_113 rfl ?_
        refine G_aload_n F dX8_piece_114 rfl ?_
        obtain ⟨v17, e_v17, h⟩ := bnd h
        obtain ⟨hc_v17, e_v17⟩ := hp_on_of e_v17
        refine G_callVv F (As := []) (st := [.inl v9, .inr v4, .inr (some (nx + d6 + d11)), .inr (some (nx + d6 + d11))]) (metX8_isGood X e_v17) hc_v17 rfl rfl (lw_V q472 q474 qs1 q110 q475) hdfX8_isGood ⟨by omega, by decide⟩ rfl (Nat.le_of_ble_eq_true rfl) ⟨by omega, by omega⟩ dX8_piece_115 ?_
        refine G_if_eq F (tgt := 128) dX8_piece_118 (by decide) (fun c18 => ?_) (fun c18 => ?_)
        · have h := itt c18 h
          refine G_null F dX8_piece_128 ?_
          obtain ⟨m19, e_m19, h⟩ := bnd h
          refine G_callI0 F (As := [.inr v4, .inl v9, .inr none]) (st := [.inr (some (nx + d6 + d11))]) (metX16_init X e_m19) q675 q124 q673 q674 rfl hdfX16_init ⟨by omega, by decide⟩ rfl (Nat.le_of_ble_eq_true rfl) ⟨by omega, by omega⟩ dX8_piece_129 ?_
          cases h
          exact G_aret F rfl (by omega) (by omega) (by omega) dX8_piece_132
        · have h := itf c18 h
          refine G_aload_n F dX8_piece_121 rfl ?_
          obtain ⟨⟨⟨v20, m21⟩, d22, c23⟩, e_v20, h⟩ := bnd h
          obtain ⟨D24, C24, h, hD24, hC24⟩ := andA_of h; try dsimp only at hD24 hC24
          obtain ⟨hc_v20, e_v20⟩ := hp_on_of e_v20
          refine G_callVv F (As := []) (st := [.inl v9, .inr v4, .inr (some (nx + d6 + d11)), .inr (some (nx + d6 + d11))]) (con_sum X 60 e_v20) hc_v20 rfl rfl (lw_V q575 q577 qs5 q110 q578) hdfX8_sumB ⟨by omega, by decide⟩ rfl (Nat.le_of_ble_eq_true rfl) ⟨by omega, by omega⟩ dX8_piece_122 ?_
          refine G_goto F (tgt := 129) dX8_piece_125 (by decide) ?_
          obtain ⟨m25, e_m25, h⟩ := bnd h
          refine G_callI0 F (As := [.inr v4, .inl v9, .inr v20]) (st := [.inr (some (nx + d6 + d11))]) (metX16_init X e_m25) q675 q124 q673 q674 rfl hdfX16_init ⟨by omega, by decide⟩ rfl (Nat.le_of_ble_eq_true rfl) ⟨by omega, by omega⟩ dX8_piece_129 ?_
          cases h
          exact G_aret F rfl (by omega) (by omega) (by omega) dX8_piece_132
      have h := hp11
      clear hp11
      refine G_icmp_eq F (tgt := 98) dX8_piece_74 (by decide) (fun c26 => ?_) (fun c26 => ?_)
      · have h := itt c26 h
        obtain ⟨hq_, hd_, hc_⟩ := lf3 h
        exact G_cnt (G_sub F (L2 := [some (.inr a0), none, some (.inr v4), some (.inl v9)]) ⟨rfl, ⟨rfl, ⟨rfl, trivial⟩⟩⟩ (K11 _ hq_)) (by omega) (by omega) (by omega)
      · have h := itf c26 h
        refine G_iload_n F dX8_piece_77 rfl ?_
        refine G_bipush F (v := (62 : Int32)) dX8_piece_78 (by decide) ?_
        refine G_icmp_eq F (tgt := 98) dX8_piece_80 (by decide) (fun c27 => ?_) (fun c27 => ?_)
        · have h := itt c27 h
          obtain ⟨hq_, hd_, hc_⟩ := lf3 h
          exact G_cnt (G_sub F (L2 := [some (.inr a0), none, some (.inr v4), some (.inl v9)]) ⟨rfl, ⟨rfl, ⟨rfl, trivial⟩⟩⟩ (K11 _ hq_)) (by omega) (by omega) (by omega)
        · have h := itf c27 h
          refine G_iload_n F dX8_piece_83 rfl ?_
          refine G_bipush F (v := (61 : Int32)) dX8_piece_84 (by decide) ?_
          refine G_icmp_eq F (tgt := 98) dX8_piece_86 (by decide) (fun c28 => ?_) (fun c28 => ?_)
          · have h := itt c28 h
            obtain ⟨hq_, hd_, hc_⟩ := lf3 h
            exact G_cnt (G_sub F (L2 := [some (.inr a0), none, some (.inr v4), some (.inl v9)]) ⟨rfl, ⟨rfl, ⟨rfl, trivial⟩⟩⟩ (K11 _ hq_)) (by omega) (by omega) (by omega)
          · have h := itf c28 h
            refine G_aload_n F dX8_piece_89 rfl ?_
            refine G_iconst F (v := (1 : Int32)) dX8_piece_90 (by decide) ?_
            refine G_aload_n F dX8_piece_91 rfl ?_
            obtain ⟨v29, e_v29, h⟩ := bnd h
            refine G_getI F okX8 (f := 2) (by decide) q448 rfl dX8_piece_92 e_v29 ?_
            obtain ⟨m30, e_m30, h⟩ := bnd h
            obtain ⟨hc_m30, e_m30⟩ := hp_on_of e_m30
            refine G_callV0 F (As := [.inl (1 : Int32), .inl v29]) (st := []) (metX8_bad X e_m30) hc_m30 rfl rfl (lw_V q571 q573 qs4 q110 q574) hdfX8_bad ⟨by omega, by decide⟩ rfl (Nat.le_of_ble_eq_true rfl) ⟨by omega, by omega⟩ dX8_piece_95 ?_
            obtain ⟨hq_, hd_, hc_⟩ := lf3 h
            exact G_cnt (G_sub F (L2 := [some (.inr a0), none, some (.inr v4), some (.inl v9)]) ⟨rfl, ⟨rfl, ⟨rfl, trivial⟩⟩⟩ (K11 _ hq_)) (by omega) (by omega) (by omega)
    · have h := itt c3 h
      refine G_aload_n F dX8_piece_56 rfl ?_
      obtain ⟨⟨⟨v31, m32⟩, d33, c34⟩, e_v31, h⟩ := bnd h
      obtain ⟨D35, C35, h, hD35, hC35⟩ := andA_of h; try dsimp only at hD35 hC35
      obtain ⟨hc_v31, e_v31⟩ := hp_on_of e_v31
      refine G_callVv F (As := []) (st := []) (metX8_condition X hdr hrec e_v31) hc_v31 rfl rfl (lw_V q644 q646 qs12 q110 q647) hdfX8_condition ⟨by omega, by decide⟩ rfl (Nat.le_of_ble_eq_true rfl) ⟨by omega, by omega⟩ dX8_piece_57 ?_
      cases h
      exact G_aret F rfl (by omega) (by omega) (by omega) dX8_piece_60
  · have h := itt c2 h
    refine G_aload_n F dX8_piece_11 rfl ?_
    obtain ⟨m36, e_m36, h⟩ := bnd h
    obtain ⟨hc_m36, e_m36⟩ := hp_on_of e_m36
    refine G_callV0 F (As := []) (st := []) (metX8_opens X e_m36) hc_m36 rfl rfl (lw_V q589 q591 qs8 q110 q592) hdfX8_opens ⟨by omega, by decide⟩ rfl (Nat.le_of_ble_eq_true rfl) ⟨by omega, by omega⟩ dX8_piece_12 ?_
    refine G_aload_n F dX8_piece_15 rfl ?_
    obtain ⟨v37, e_v37, h⟩ := bnd h
    obtain ⟨hc_v37, e_v37⟩ := hp_on_of e_v37
    refine G_callVv F (As := []) (st := []) (metX8_isGood X e_v37) hc_v37 rfl rfl (lw_V q472 q474 qs1 q110 q475) hdfX8_isGood ⟨by omega, by decide⟩ rfl (Nat.le_of_ble_eq_true rfl) ⟨by omega, by omega⟩ dX8_piece_16 ?_
    obtain ⟨⟨p40, d40, c40⟩, hp40, h⟩ := bnd h
    obtain ⟨D41, C41, h, hD41, hC41⟩ := andA_of h; try dsimp only at hD41 hC41
    have K40 : ∀ (v38 : Option Nat) (m39 : Hp), (v38, m39) = p40 → G X cx 4 (Qm X cx (some (.inr rv)) m_ nx dc ds) (0 + d40) (0 + c40) m39 (nx + d40) [some (.inr a0), none, none, none] [.inr v38] 30 := by
      intro v38 m39 hq
      subst hq
      try dsimp only at h
      refine G_astore_n F (L2 := [some (.inr a0), none, some (.inr v38), none]) dX8_piece_30 (by decide) rfl ?_
      refine G_aload_n F dX8_piece_31 rfl ?_
      refine G_dup F dX8_piece_32 ?_
      obtain ⟨v42, e_v42, h⟩ := bnd h
      refine G_getI F okX8 (f := 3) (by decide) q449 rfl dX8_piece_33 e_v42 ?_
      refine G_iconst F (v := (1 : Int32)) dX8_piece_36 (by decide) ?_
      refine G_isub F dX8_piece_37 ?_
      obtain ⟨m43, e_m43, h⟩ := bnd h
      refine G_putV F okX8 (f := 3) (by decide) q449 rfl rfl dX8_piece_38 (vfit_int _) e_m43 ?_
      obtain ⟨m44, e_m44, h⟩ := bnd h
      obtain ⟨D45, C45, h, hD45, hC45⟩ := andA_of h; try dsimp only at hD45 hC45
      refine G_newc F okX15 (fs := dfX15) q658 q659 q123 (by decide) (by omega) (by omega) dX8_piece_41 e_m44 ?_
      refine G_dup F dX8_piece_44 ?_
      refine G_aload_n F dX8_piece_45 rfl ?_
      obtain ⟨m46, e_m46, h⟩ := bnd h
      refine G_callI0 F (As := [.inr v38]) (st := [.inr (some (nx + d40))]) (metX15_init X e_m46) q662 q123 q660 q661 rfl hdfX15_init ⟨by omega, by decide⟩ rfl (Nat.le_of_ble_eq_true rfl) ⟨by omega, by omega⟩ dX8_piece_46 ?_
      cases h
      exact G_aret F rfl (by omega) (by omega) (by omega) dX8_piece_49
    have h := hp40
    clear hp40
    refine G_if_eq F (tgt := 29) dX8_piece_19 (by decide) (fun c47 => ?_) (fun c47 => ?_)
    · have h := itt c47 h
      refine G_null F dX8_piece_29 ?_
      obtain ⟨hq_, hd_, hc_⟩ := lf3 h
      exact G_cnt (G_sub F (L2 := [some (.inr a0), none, none, none]) ⟨rfl, trivial⟩ (K40 _ _ hq_)) (by omega) (by omega) (by omega)
    · have h := itf c47 h
      refine G_aload_n F dX8_piece_22 rfl ?_
      obtain ⟨⟨⟨v48, m49⟩, d50, c51⟩, e_v48, h⟩ := bnd h
      obtain ⟨D52, C52, h, hD52, hC52⟩ := andA_of h; try dsimp only at hD52 hC52
      obtain ⟨hc_v48, e_v48⟩ := hp_on_of e_v48
      refine G_callVv F (As := []) (st := []) (hrec e_v48) hc_v48 rfl rfl (lw_V q654 q656 qs14 q110 q657) hdfX8_pieceB ⟨by omega, by decide⟩ rfl (Nat.le_of_ble_eq_true rfl) ⟨by omega, by omega⟩ dX8_piece_23 ?_
      refine G_goto F (tgt := 30) dX8_piece_26 (by decide) ?_
      obtain ⟨hq_, hd_, hc_⟩ := lf3 h
      exact G_cnt (G_sub F (L2 := [some (.inr a0), none, none, none]) ⟨rfl, trivial⟩ (K40 _ _ hq_)) (by omega) (by omega) (by omega)

theorem con_piece (X : Gx) : ∀ (n : Nat), ∀ {m : Hp} {nx : Nat} {a0 : Option Nat} {rv : Option Nat} {m_ : Hp} {dc ds : Nat}, fX8_piece n m nx a0 = some ((rv, m_), dc, ds) → Con X (240 + 3 * n) yX8_piece cX8_piece 4 (Option.some (FieldType.object "MissedTrains$Condition")) [.inr a0] m nx (some (.inr rv)) m_ dc ds := by
  intro n
  induction n with
  | zero => intro _ _ _  _ _ _ _ h; cases h
  | succ n ih => intro _ _ _  _ _ _ _ h; exact metX8_pieceB X (dr := 240 + 3 * n) (by omega) ih h

theorem metX8_clause (X : Gx) {m : Hp} {nx : Nat} {a0 : Option Nat} {m_ : Hp} {dc ds : Nat} (h : fX8_clause m nx a0 = some (m_, dc, ds)) : Con X (426) yX8_clause cX8_clause 4 ((none : Option FieldType)) [.inr a0] m nx none m_ dc ds := by
  refine Con.of (own := RX8) (nm := "clause") (L := [some (.inr a0), none, none, none]) (by decide +kernel) rfl rfl (Nat.le_of_ble_eq_true rfl) (ent_of 3 rfl) ?_
  intro cx F
  refine G_aload_n F dX8_clause_0 rfl ?_
  obtain ⟨v1, e_v1, h⟩ := bnd h
  obtain ⟨hc_v1, e_v1⟩ := hp_on_of e_v1
  refine G_callVv F (As := []) (st := []) (metX8_here X e_v1) hc_v1 rfl rfl (lw_V q480 q482 qs3 q110 q483) hdfX8_here ⟨by omega, by decide⟩ rfl (Nat.le_of_ble_eq_true rfl) ⟨by omega, by omega⟩ dX8_clause_1 ?_
  refine G_istore_n F (L2 := [some (.inr a0), some (.inl v1), none, none]) dX8_clause_4 (by decide) rfl ?_
  refine G_iload_n F dX8_clause_5 rfl ?_
  obtain ⟨⟨p3, d3, c3⟩, hp3, h⟩ := bnd h
  obtain ⟨D4, C4, h, hD4, hC4⟩ := andA_of h; try dsimp only at hD4 hC4
  have K3 : ∀ (m2 : Hp), m2 = p3 → G X cx 4 (Qm X cx none m_ nx dc ds) (0 + d3) (0 + c3) m2 (nx + d3) [some (.inr a0), some (.inl v1), none, none] [] 51 := by
    intro m2 hq
    subst hq
    try dsimp only at h
    refine G_aload_n F dX8_clause_51 rfl ?_
    obtain ⟨v5, e_v5, h⟩ := bnd h
    obtain ⟨hc_v5, e_v5⟩ := hp_on_of e_v5
    refine G_callVv F (As := []) (st := []) (metX8_isGood X e_v5) hc_v5 rfl rfl (lw_V q472 q474 qs1 q110 q475) hdfX8_isGood ⟨by omega, by decide⟩ rfl (Nat.le_of_ble_eq_true rfl) ⟨by omega, by omega⟩ dX8_clause_52 ?_
    refine G_if_ne F (tgt := 59) dX8_clause_55 (by decide) (fun c6 => ?_) (fun c6 => ?_)
    · have h := itf c6 h
      refine G_aload_n F dX8_clause_59 rfl ?_
      refine G_dup F dX8_clause_60 ?_
      obtain ⟨v7, e_v7, h⟩ := bnd h
      refine G_getI F okX8 (f := 2) (by decide) q448 rfl dX8_clause_61 e_v7 ?_
      refine G_iconst F (v := (1 : Int32)) dX8_clause_64 (by decide) ?_
      refine G_iadd F dX8_clause_65 ?_
      obtain ⟨m8, e_m8, h⟩ := bnd h
      refine G_putV F okX8 (f := 2) (by decide) q448 rfl rfl dX8_clause_66 (vfit_int _) e_m8 ?_
      refine G_aload_n F dX8_clause_69 rfl ?_
      refine G_iconst F (v := (0 : Int32)) dX8_clause_70 (by decide) ?_
      obtain ⟨m9, e_m9, h⟩ := bnd h
      refine G_putV F okX8 (f := 3) (by decide) q449 rfl rfl dX8_clause_71 (vfit_int _) e_m9 ?_
      refine G_iload_n F dX8_clause_74 rfl ?_
      refine G_bipush F (v := (109 : Int32)) dX8_clause_75 (by decide) ?_
      obtain ⟨⟨p12, d12, c12⟩, hp12, h⟩ := bnd h
      obtain ⟨D13, C13, h, hD13, hC13⟩ := andA_of h; try dsimp only at hD13 hC13
      have K12 : ∀ (v10 : Option Nat) (m11 : Hp), (v10, m11) = p12 → G X cx 4 (Qm X cx none m_ nx dc ds) (0 + d3 + d12) (0 + c3 + c12) m11 (nx + d3 + d12) [some (.inr a0), some (.inl v1), none, none] [.inr v10] 88 := by
        intro v10 m11 hq
        subst hq
        try dsimp only at h
        refine G_astore_n F (L2 := [some (.inr a0), some (.inl v1), some (.inr v10), none]) dX8_clause_88 (by decide) rfl ?_
        refine G_aload_n F dX8_clause_89 rfl ?_
        obtain ⟨v14, e_v14, h⟩ := bnd h
        obtain ⟨hc_v14, e_v14⟩ := hp_on_of e_v14
        refine G_callVv F (As := []) (st := []) (metX8_isGood X e_v14) hc_v14 rfl rfl (lw_V q472 q474 qs1 q110 q475) hdfX8_isGood ⟨by omega, by decide⟩ rfl (Nat.le_of_ble_eq_true rfl) ⟨by omega, by omega⟩ dX8_clause_90 ?_
        obtain ⟨⟨p16, d16, c16⟩, hp16, h⟩ := bnd h
        obtain ⟨D17, C17, h, hD17, hC17⟩ := andA_of h; try dsimp only at hD17 hC17
        have K16 : ∀ (m15 : Hp), m15 = p16 → G X cx 4 (Qm X cx none m_ nx dc ds) (0 + d3 + d12 + d16) (0 + c3 + c12 + c16) m15 (nx + d3 + d12 + d16) [some (.inr a0), some (.inl v1), some (.inr v10), none] [] 114 := by
          intro m15 hq
          subst hq
          try dsimp only at h
          refine G_aload_n F dX8_clause_114 rfl ?_
          obtain ⟨v18, e_v18, h⟩ := bnd h
          obtain ⟨hc_v18, e_v18⟩ := hp_on_of e_v18
          refine G_callVv F (As := []) (st := []) (metX8_isGood X e_v18) hc_v18 rfl rfl (lw_V q472 q474 qs1 q110 q475) hdfX8_isGood ⟨by omega, by decide⟩ rfl (Nat.le_of_ble_eq_true rfl) ⟨by omega, by omega⟩ dX8_clause_115 ?_
          obtain ⟨⟨p21, d21, c21⟩, hp21, h⟩ := bnd h
          obtain ⟨D22, C22, h, hD22, hC22⟩ := andA_of h; try dsimp only at hD22 hC22
          have K21 : ∀ (v19 : Option Nat) (m20 : Hp), (v19, m20) = p21 → G X cx 4 (Qm X cx none m_ nx dc ds) (0 + d3 + d12 + d16 + d21) (0 + c3 + c12 + c16 + c21) m20 (nx + d3 + d12 + d16 + d21) [some (.inr a0), some (.inl v1), some (.inr v10), none] [.inr v19] 129 := by
            intro v19 m20 hq
            subst hq
            try dsimp only at h
            refine G_astore_n F (L2 := [some (.inr a0), some (.inl v1), some (.inr v10), some (.inr v19)]) dX8_clause_129 (by decide) rfl ?_
            refine G_aload_n F dX8_clause_130 rfl ?_
            obtain ⟨v23, e_v23, h⟩ := bnd h
            refine G_getR F okX8 (f := 1) (by decide) q446 rfl dX8_clause_131 e_v23 ?_
            obtain ⟨v24, e_v24, h⟩ := bnd h
            refine G_getRN F okX5 (f := 0) (by decide) q270 rfl dX8_clause_134 e_v24 ?_
            refine G_aload_n F dX8_clause_137 rfl ?_
            obtain ⟨v25, e_v25, h⟩ := bnd h
            refine G_getR F okX8 (f := 1) (by decide) q446 rfl dX8_clause_138 e_v25 ?_
            obtain ⟨v26, e_v26, h⟩ := bnd h
            refine G_getIN F okX5 (f := 3) (by decide) q276 rfl dX8_clause_141 e_v26 ?_
            refine G_iload_n F dX8_clause_144 rfl ?_
            obtain ⟨m27, e_m27, h⟩ := bnd h
            refine G_iast F dX8_clause_145 e_m27 ?_
            refine G_aload_n F dX8_clause_146 rfl ?_
            obtain ⟨v28, e_v28, h⟩ := bnd h
            refine G_getR F okX8 (f := 1) (by decide) q446 rfl dX8_clause_147 e_v28 ?_
            obtain ⟨v29, e_v29, h⟩ := bnd h
            refine G_getRN F okX5 (f := 1) (by decide) q272 rfl dX8_clause_150 e_v29 ?_
            refine G_aload_n F dX8_clause_153 rfl ?_
            obtain ⟨v30, e_v30, h⟩ := bnd h
            refine G_getR F okX8 (f := 1) (by decide) q446 rfl dX8_clause_154 e_v30 ?_
            obtain ⟨v31, e_v31, h⟩ := bnd h
            refine G_getIN F okX5 (f := 3) (by decide) q276 rfl dX8_clause_157 e_v31 ?_
            refine G_aload_n F dX8_clause_160 rfl ?_
            obtain ⟨m32, e_m32, h⟩ := bnd h
            refine G_aast F (t := 3) (by decide) rfl dX8_clause_161 e_m32 ?_
            refine G_aload_n F dX8_clause_162 rfl ?_
            obtain ⟨v33, e_v33, h⟩ := bnd h
            refine G_getR F okX8 (f := 1) (by decide) q446 rfl dX8_clause_163 e_v33 ?_
            obtain ⟨v34, e_v34, h⟩ := bnd h
            refine G_getRN F okX5 (f := 2) (by decide) q274 rfl dX8_clause_166 e_v34 ?_
            refine G_aload_n F dX8_clause_169 rfl ?_
            obtain ⟨v35, e_v35, h⟩ := bnd h
            refine G_getR F okX8 (f := 1) (by decide) q446 rfl dX8_clause_170 e_v35 ?_
            obtain ⟨v36, e_v36, h⟩ := bnd h
            refine G_getIN F okX5 (f := 3) (by decide) q276 rfl dX8_clause_173 e_v36 ?_
            refine G_aload_n F dX8_clause_176 rfl ?_
            obtain ⟨m37, e_m37, h⟩ := bnd h
            refine G_aast F (t := 4) (by decide) rfl dX8_clause_177 e_m37 ?_
            refine G_aload_n F dX8_clause_178 rfl ?_
            obtain ⟨v38, e_v38, h⟩ := bnd h
            refine G_getR F okX8 (f := 1) (by decide) q446 rfl dX8_clause_179 e_v38 ?_
            refine G_dup F dX8_clause_182 ?_
            obtain ⟨v39, e_v39, h⟩ := bnd h
            refine G_getIN F okX5 (f := 3) (by decide) q276 rfl dX8_clause_183 e_v39 ?_
            refine G_iconst F (v := (1 : Int32)) dX8_clause_186 (by decide) ?_
            refine G_iadd F dX8_clause_187 ?_
            obtain ⟨m40, e_m40, h⟩ := bnd h
            refine G_putVN F okX5 (f := 3) (by decide) q276 rfl rfl dX8_clause_188 (vfit_int _) e_m40 ?_
            cases h
            exact G_vret F rfl (by omega) (by omega) (by omega) dX8_clause_191
          have h := hp21
          clear hp21
          refine G_if_eq F (tgt := 128) dX8_clause_118 (by decide) (fun c41 => ?_) (fun c41 => ?_)
          · have h := itt c41 h
            refine G_null F dX8_clause_128 ?_
            obtain ⟨hq_, hd_, hc_⟩ := lf3 h
            exact G_cnt (G_sub F (L2 := [some (.inr a0), some (.inl v1), some (.inr v10), none]) ⟨rfl, ⟨rfl, ⟨rfl, trivial⟩⟩⟩ (K21 _ _ hq_)) (by omega) (by omega) (by omega)
          · have h := itf c41 h
            refine G_aload_n F dX8_clause_121 rfl ?_
            obtain ⟨⟨⟨v42, m43⟩, d44, c45⟩, e_v42, h⟩ := bnd h
            obtain ⟨D46, C46, h, hD46, hC46⟩ := andA_of h; try dsimp only at hD46 hC46
            obtain ⟨hc_v42, e_v42⟩ := hp_on_of e_v42
            refine G_callVv F (As := []) (st := []) (metX8_condition X (dr := 420) (by omega) (con_piece X 60) e_v42) hc_v42 rfl rfl (lw_V q644 q646 qs12 q110 q647) hdfX8_condition ⟨by omega, by decide⟩ rfl (Nat.le_of_ble_eq_true rfl) ⟨by omega, by omega⟩ dX8_clause_122 ?_
            refine G_goto F (tgt := 129) dX8_clause_125 (by decide) ?_
            obtain ⟨hq_, hd_, hc_⟩ := lf3 h
            exact G_cnt (G_sub F (L2 := [some (.inr a0), some (.inl v1), some (.inr v10), none]) ⟨rfl, ⟨rfl, ⟨rfl, trivial⟩⟩⟩ (K21 _ _ hq_)) (by omega) (by omega) (by omega)
        have h := hp16
        clear hp16
        refine G_if_eq F (tgt := 114) dX8_clause_93 (by decide) (fun c47 => ?_) (fun c47 => ?_)
        · have h := itt c47 h
          obtain ⟨hq_, hd_, hc_⟩ := lf3 h
          exact G_cnt (G_sub F (L2 := [some (.inr a0), some (.inl v1), some (.inr v10), none]) ⟨rfl, ⟨rfl, ⟨rfl, trivial⟩⟩⟩ (K16 _ hq_)) (by omega) (by omega) (by omega)
        · have h := itf c47 h
          refine G_aload_n F dX8_clause_96 rfl ?_
          obtain ⟨v48, e_v48, h⟩ := bnd h
          obtain ⟨hc_v48, e_v48⟩ := hp_on_of e_v48
          refine G_callVv F (As := []) (st := []) (metX8_here X e_v48) hc_v48 rfl rfl (lw_V q480 q482 qs3 q110 q483) hdfX8_here ⟨by omega, by decide⟩ rfl (Nat.le_of_ble_eq_true rfl) ⟨by omega, by omega⟩ dX8_clause_97 ?_
          refine G_bipush F (v := (40 : Int32)) dX8_clause_100 (by decide) ?_
          refine G_icmp_eq F (tgt := 114) dX8_clause_102 (by decide) (fun c49 => ?_) (fun c49 => ?_)
          · have h := itt c49 h
            obtain ⟨hq_, hd_, hc_⟩ := lf3 h
            exact G_cnt (G_sub F (L2 := [some (.inr a0), some (.inl v1), some (.inr v10), none]) ⟨rfl, ⟨rfl, ⟨rfl, trivial⟩⟩⟩ (K16 _ hq_)) (by omega) (by omega) (by omega)
          · have h := itf c49 h
            refine G_aload_n F dX8_clause_105 rfl ?_
            refine G_iconst F (v := (1 : Int32)) dX8_clause_106 (by decide) ?_
            refine G_aload_n F dX8_clause_107 rfl ?_
            obtain ⟨v50, e_v50, h⟩ := bnd h
            refine G_getI F okX8 (f := 2) (by decide) q448 rfl dX8_clause_108 e_v50 ?_
            obtain ⟨m51, e_m51, h⟩ := bnd h
            obtain ⟨hc_m51, e_m51⟩ := hp_on_of e_m51
            refine G_callV0 F (As := [.inl (1 : Int32), .inl v50]) (st := []) (metX8_bad X e_m51) hc_m51 rfl rfl (lw_V q571 q573 qs4 q110 q574) hdfX8_bad ⟨by omega, by decide⟩ rfl (Nat.le_of_ble_eq_true rfl) ⟨by omega, by omega⟩ dX8_clause_111 ?_
            obtain ⟨hq_, hd_, hc_⟩ := lf3 h
            exact G_cnt (G_sub F (L2 := [some (.inr a0), some (.inl v1), some (.inr v10), none]) ⟨rfl, ⟨rfl, ⟨rfl, trivial⟩⟩⟩ (K16 _ hq_)) (by omega) (by omega) (by omega)
      have h := hp12
      clear hp12
      refine G_icmp_ne F (tgt := 84) dX8_clause_77 (by decide) (fun c52 => ?_) (fun c52 => ?_)
      · have h := itf c52 h
        refine G_aload_n F dX8_clause_84 rfl ?_
        obtain ⟨⟨⟨v53, m54⟩, d55, c56⟩, e_v53, h⟩ := bnd h
        obtain ⟨D57, C57, h, hD57, hC57⟩ := andA_of h; try dsimp only at hD57 hC57
        obtain ⟨hc_v53, e_v53⟩ := hp_on_of e_v53
        refine G_callVv F (As := []) (st := []) (con_sum X 60 e_v53) hc_v53 rfl rfl (lw_V q575 q577 qs5 q110 q578) hdfX8_sumB ⟨by omega, by decide⟩ rfl (Nat.le_of_ble_eq_true rfl) ⟨by omega, by omega⟩ dX8_clause_85 ?_
        obtain ⟨hq_, hd_, hc_⟩ := lf3 h
        exact G_cnt (G_sub F (L2 := [some (.inr a0), some (.inl v1), none, none]) ⟨rfl, ⟨rfl, trivial⟩⟩ (K12 _ _ hq_)) (by omega) (by omega) (by omega)
      · have h := itt c52 h
        refine G_null F dX8_clause_80 ?_
        refine G_goto F (tgt := 88) dX8_clause_81 (by decide) ?_
        obtain ⟨hq_, hd_, hc_⟩ := lf3 h
        exact G_cnt (G_sub F (L2 := [some (.inr a0), some (.inl v1), none, none]) ⟨rfl, ⟨rfl, trivial⟩⟩ (K12 _ _ hq_)) (by omega) (by omega) (by omega)
    · have h := itt c6 h
      cases h
      exact G_vret F rfl (by omega) (by omega) (by omega) dX8_clause_58
  have h := hp3
  clear hp3
  refine G_if_eq F (tgt := 18) dX8_clause_6 (by decide) (fun c58 => ?_) (fun c58 => ?_)
  · have h := itt c58 h
    refine G_aload_n F dX8_clause_18 rfl ?_
    refine G_iconst F (v := (1 : Int32)) dX8_clause_19 (by decide) ?_
    refine G_aload_n F dX8_clause_20 rfl ?_
    obtain ⟨v59, e_v59, h⟩ := bnd h
    refine G_getI F okX8 (f := 2) (by decide) q448 rfl dX8_clause_21 e_v59 ?_
    obtain ⟨m60, e_m60, h⟩ := bnd h
    obtain ⟨hc_m60, e_m60⟩ := hp_on_of e_m60
    refine G_callV0 F (As := [.inl (1 : Int32), .inl v59]) (st := []) (metX8_bad X e_m60) hc_m60 rfl rfl (lw_V q571 q573 qs4 q110 q574) hdfX8_bad ⟨by omega, by decide⟩ rfl (Nat.le_of_ble_eq_true rfl) ⟨by omega, by omega⟩ dX8_clause_24 ?_
    refine G_goto F (tgt := 51) dX8_clause_27 (by decide) ?_
    obtain ⟨hq_, hd_, hc_⟩ := lf3 h
    exact G_cnt (G_sub F (L2 := [some (.inr a0), some (.inl v1), none, none]) ⟨rfl, ⟨rfl, trivial⟩⟩ (K3 _ hq_)) (by omega) (by omega) (by omega)
  · have h := itf c58 h
    refine G_strC F dX8_clause_9 dX8_clause_11 rfl q485 (Nat.le_of_ble_eq_true rfl) dX8_clause_12 (by omega) ⟨by omega, by omega⟩ ?_
    refine G_if_ge F (tgt := 30) dX8_clause_15 (by decide) (fun c61 => ?_) (fun c61 => ?_)
    · have h := itt c61 h
      refine G_aload_n F dX8_clause_30 rfl ?_
      obtain ⟨v62, e_v62, h⟩ := bnd h
      refine G_getR F okX8 (f := 1) (by decide) q446 rfl dX8_clause_31 e_v62 ?_
      obtain ⟨v63, e_v63, h⟩ := bnd h
      refine G_getIN F okX5 (f := 3) (by decide) q276 rfl dX8_clause_34 e_v63 ?_
      refine G_bipush F (v := (16 : Int32)) dX8_clause_37 (by decide) ?_
      refine G_icmp_ne F (tgt := 51) dX8_clause_39 (by decide) (fun c64 => ?_) (fun c64 => ?_)
      · have h := itf c64 h
        obtain ⟨hq_, hd_, hc_⟩ := lf3 h
        exact G_cnt (G_sub F (L2 := [some (.inr a0), some (.inl v1), none, none]) ⟨rfl, ⟨rfl, trivial⟩⟩ (K3 _ hq_)) (by omega) (by omega) (by omega)
      · have h := itt c64 h
        refine G_aload_n F dX8_clause_42 rfl ?_
        refine G_iconst F (v := (4 : Int32)) dX8_clause_43 (by decide) ?_
        refine G_aload_n F dX8_clause_44 rfl ?_
        obtain ⟨v65, e_v65, h⟩ := bnd h
        refine G_getI F okX8 (f := 2) (by decide) q448 rfl dX8_clause_45 e_v65 ?_
        obtain ⟨m66, e_m66, h⟩ := bnd h
        obtain ⟨hc_m66, e_m66⟩ := hp_on_of e_m66
        refine G_callV0 F (As := [.inl (4 : Int32), .inl v65]) (st := []) (metX8_bad X e_m66) hc_m66 rfl rfl (lw_V q571 q573 qs4 q110 q574) hdfX8_bad ⟨by omega, by decide⟩ rfl (Nat.le_of_ble_eq_true rfl) ⟨by omega, by omega⟩ dX8_clause_48 ?_
        obtain ⟨hq_, hd_, hc_⟩ := lf3 h
        exact G_cnt (G_sub F (L2 := [some (.inr a0), some (.inl v1), none, none]) ⟨rfl, ⟨rfl, trivial⟩⟩ (K3 _ hq_)) (by omega) (by omega) (by omega)
    · have h := itf c61 h
      refine G_aload_n F dX8_clause_18 rfl ?_
      refine G_iconst F (v := (1 : Int32)) dX8_clause_19 (by decide) ?_
      refine G_aload_n F dX8_clause_20 rfl ?_
      obtain ⟨v67, e_v67, h⟩ := bnd h
      refine G_getI F okX8 (f := 2) (by decide) q448 rfl dX8_clause_21 e_v67 ?_
      obtain ⟨m68, e_m68, h⟩ := bnd h
      obtain ⟨hc_m68, e_m68⟩ := hp_on_of e_m68
      refine G_callV0 F (As := [.inl (1 : Int32), .inl v67]) (st := []) (metX8_bad X e_m68) hc_m68 rfl rfl (lw_V q571 q573 qs4 q110 q574) hdfX8_bad ⟨by omega, by decide⟩ rfl (Nat.le_of_ble_eq_true rfl) ⟨by omega, by omega⟩ dX8_clause_24 ?_
      refine G_goto F (tgt := 51) dX8_clause_27 (by decide) ?_
      obtain ⟨hq_, hd_, hc_⟩ := lf3 h
      exact G_cnt (G_sub F (L2 := [some (.inr a0), some (.inl v1), none, none]) ⟨rfl, ⟨rfl, trivial⟩⟩ (K3 _ hq_)) (by omega) (by omega) (by omega)

theorem metX8_read (X : Gx) {m : Hp} {nx : Nat} {a0 : Option Nat} {rv : Int32} {m_ : Hp} {dc ds : Nat} (h : fX8_read m nx a0 = some ((rv, m_), dc, ds)) : Con X (427) yX8_read cX8_read 2 ((Option.some FieldType.int)) [.inr a0] m nx (some (.inl rv)) m_ dc ds := by
  refine Con.of (own := RX8) (nm := "read") (L := [some (.inr a0), none]) (by decide +kernel) rfl rfl (Nat.le_of_ble_eq_true rfl) (ent_of 1 rfl) ?_
  intro cx F
  refine G_iconst F (v := (1 : Int32)) dX8_read_0 (by decide) ?_
  refine G_istore_n F (L2 := [some (.inr a0), some (.inl (1 : Int32))]) dX8_read_1 (by decide) rfl ?_
  obtain ⟨⟨r1, e1, f1⟩, hr1, h⟩ := bnd h
  obtain ⟨D20, C20, h, hD20, hC20⟩ := andA_of h; try dsimp only at hD20 hC20
  have KE1 : ∀ (m19 : Hp), m19 = r1 → G X cx 2 (Qm X cx (some (.inl rv)) m_ nx dc ds) (0 + e1) (0 + f1) m19 (nx + e1) [some (.inr a0), none] [] 54 := by
    intro m19 hq
    subst hq
    try dsimp only at h
    refine G_aload_n F dX8_read_54 rfl ?_
    obtain ⟨v21, e_v21, h⟩ := bnd h
    obtain ⟨hc_v21, e_v21⟩ := hp_on_of e_v21
    refine G_callVv F (As := []) (st := []) (metX8_isGood X e_v21) hc_v21 rfl rfl (lw_V q472 q474 qs1 q110 q475) hdfX8_isGood ⟨by omega, by decide⟩ rfl (Nat.le_of_ble_eq_true rfl) ⟨by omega, by omega⟩ dX8_read_55 ?_
    refine G_if_eq F (tgt := 71) dX8_read_58 (by decide) (fun c22 => ?_) (fun c22 => ?_)
    · have h := itt c22 h
      refine G_sipush F (v := (-1000 : Int32)) dX8_read_71 (by decide) ?_
      refine G_aload_n F dX8_read_74 rfl ?_
      obtain ⟨v23, e_v23, h⟩ := bnd h
      refine G_getI F okX8 (f := 4) (by decide) q450 rfl dX8_read_75 e_v23 ?_
      refine G_imul F dX8_read_78 ?_
      refine G_aload_n F dX8_read_79 rfl ?_
      obtain ⟨v24, e_v24, h⟩ := bnd h
      refine G_getI F okX8 (f := 5) (by decide) q451 rfl dX8_read_80 e_v24 ?_
      refine G_isub F dX8_read_83 ?_
      cases h
      exact G_iret F rfl (by omega) (by omega) (by omega) dX8_read_84
    · have h := itf c22 h
      refine G_aload_n F dX8_read_61 rfl ?_
      obtain ⟨v25, e_v25, h⟩ := bnd h
      refine G_getR F okX8 (f := 1) (by decide) q446 rfl dX8_read_62 e_v25 ?_
      obtain ⟨v26, e_v26, h⟩ := bnd h
      refine G_getIN F okX5 (f := 3) (by decide) q276 rfl dX8_read_65 e_v26 ?_
      refine G_goto F (tgt := 84) dX8_read_68 (by decide) ?_
      cases h
      exact G_iret F rfl (by omega) (by omega) (by omega) dX8_read_84
  have KB1 : ∀ s nx1 k1 n1 o1 d1 c1, fX8_read_L2 a0 s nx1 = some (o1, d1, c1) → k1 + d1 ≤ dc → n1 + c1 ≤ ds → (∀ s', o1 = Sum.inl s' → (fun (s : (Int32 × Hp)) nx1 k1 n1 => match s with | (s1_1, m1) => G X cx 2 (Qm X cx (some (.inl rv)) m_ nx dc ds) (k1) (n1) m1 (nx1) [some (.inr a0), some (.inl s1_1)] [] 2) s' (nx1 + d1) (k1 + d1) (n1 + c1)) → (∀ q, o1 = Sum.inr q → (fun q a_ b_ c_ => q = r1 ∧ a_ = nx + e1 ∧ b_ = 0 + e1 ∧ c_ = 0 + f1) q (nx1 + d1) (k1 + d1) (n1 + c1)) → (fun (s : (Int32 × Hp)) nx1 k1 n1 => match s with | (s1_1, m1) => G X cx 2 (Qm X cx (some (.inl rv)) m_ nx dc ds) (k1) (n1) m1 (nx1) [some (.inr a0), some (.inl s1_1)] [] 2) s nx1 k1 n1 := by
    intro s nx1 k1 n1 o1 d1 c1 h hk1 hn1 hP1 hE1
    obtain ⟨s1_1, m1⟩ := s
    try dsimp only at hP1 hE1 ⊢
    refine G_iload_n F dX8_read_2 rfl ?_
    refine G_if_eq F (tgt := 54) dX8_read_3 (by decide) (fun c2 => ?_) (fun c2 => ?_)
    · have h := itt c2 h
      cases h
      obtain ⟨q0_, q1_, q2_, q3_⟩ := hE1 _ rfl
      exact G_cnt (G_sub F (L2 := [some (.inr a0), none]) ⟨rfl, trivial⟩ (KE1 _ q0_)) (by omega) (by omega) (by omega)
    · have h := itf c2 h
      refine G_aload_n F dX8_read_6 rfl ?_
      obtain ⟨v3, e_v3, h⟩ := bnd h
      obtain ⟨hc_v3, e_v3⟩ := hp_on_of e_v3
      refine G_callVv F (As := []) (st := []) (metX8_isGood X e_v3) hc_v3 rfl rfl (lw_V q472 q474 qs1 q110 q475) hdfX8_isGood ⟨by omega, by decide⟩ rfl (Nat.le_of_ble_eq_true rfl) ⟨by omega, by omega⟩ dX8_read_7 ?_
      refine G_if_eq F (tgt := 54) dX8_read_10 (by decide) (fun c4 => ?_) (fun c4 => ?_)
      · have h := itt c4 h
        cases h
        obtain ⟨q0_, q1_, q2_, q3_⟩ := hE1 _ rfl
        exact G_cnt (G_sub F (L2 := [some (.inr a0), none]) ⟨rfl, trivial⟩ (KE1 _ q0_)) (by omega) (by omega) (by omega)
      · have h := itf c4 h
        refine G_aload_n F dX8_read_13 rfl ?_
        obtain ⟨⟨m5, d6, c7⟩, e_m5, h⟩ := bnd h
        obtain ⟨D8, C8, h, hD8, hC8⟩ := andA_of h; try dsimp only at hD8 hC8
        obtain ⟨hc_m5, e_m5⟩ := hp_on_of e_m5
        refine G_callV0 F (As := []) (st := []) (metX8_clause X e_m5) hc_m5 rfl rfl (lw_V q476 q478 qs2 q110 q479) hdfX8_clause ⟨by omega, by decide⟩ rfl (Nat.le_of_ble_eq_true rfl) ⟨by omega, by omega⟩ dX8_read_14 ?_
        refine G_aload_n F dX8_read_17 rfl ?_
        obtain ⟨v9, e_v9, h⟩ := bnd h
        obtain ⟨hc_v9, e_v9⟩ := hp_on_of e_v9
        refine G_callVv F (As := []) (st := []) (metX8_isGood X e_v9) hc_v9 rfl rfl (lw_V q472 q474 qs1 q110 q475) hdfX8_isGood ⟨by omega, by decide⟩ rfl (Nat.le_of_ble_eq_true rfl) ⟨by omega, by omega⟩ dX8_read_18 ?_
        obtain ⟨⟨p11, d11, c11⟩, hp11, h⟩ := bnd h
        obtain ⟨D12, C12, h, hD12, hC12⟩ := andA_of h; try dsimp only at hD12 hC12
        have K11 : ∀ (v10 : Int32), v10 = p11 → G X cx 2 (Qm X cx (some (.inl rv)) m_ nx dc ds) (k1 + d6 + d11) (n1 + c7 + c11) m5 (nx1 + d6 + d11) [some (.inr a0), none] [.inl v10] 40 := by
          intro v10 hq
          subst hq
          try dsimp only at h
          refine G_istore_n F (L2 := [some (.inr a0), some (.inl v10)]) dX8_read_40 (by decide) rfl ?_
          refine G_iload_n F dX8_read_41 rfl ?_
          refine G_if_eq F (tgt := 2) dX8_read_42 (by decide) (fun c13 => ?_) (fun c13 => ?_)
          · have h := itt c13 h
            cases h
            exact G_cnt (G_sub F (L2 := [some (.inr a0), some (.inl v10)]) ⟨rfl, ⟨rfl, trivial⟩⟩ (hP1 _ rfl)) (by omega) (by omega) (by omega)
          · have h := itf c13 h
            refine G_aload_n F dX8_read_45 rfl ?_
            refine G_bipush F (v := (59 : Int32)) dX8_read_46 (by decide) ?_
            obtain ⟨m14, e_m14, h⟩ := bnd h
            obtain ⟨hc_m14, e_m14⟩ := hp_on_of e_m14
            refine G_callV0 F (As := [.inl (59 : Int32)]) (st := []) (metX8_must X e_m14) hc_m14 rfl rfl (lw_V q593 q595 qs9 q110 q596) hdfX8_must ⟨by omega, by decide⟩ rfl (Nat.le_of_ble_eq_true rfl) ⟨by omega, by omega⟩ dX8_read_48 ?_
            refine G_goto F (tgt := 2) dX8_read_51 (by decide) ?_
            cases h
            exact G_cnt (G_sub F (L2 := [some (.inr a0), some (.inl v10)]) ⟨rfl, ⟨rfl, trivial⟩⟩ (hP1 _ rfl)) (by omega) (by omega) (by omega)
        have h := hp11
        clear hp11
        refine G_if_eq F (tgt := 39) dX8_read_21 (by decide) (fun c15 => ?_) (fun c15 => ?_)
        · have h := itt c15 h
          refine G_iconst F (v := (0 : Int32)) dX8_read_39 (by decide) ?_
          obtain ⟨hq_, hd_, hc_⟩ := lf3 h
          exact G_cnt (G_sub F (L2 := [some (.inr a0), none]) ⟨rfl, trivial⟩ (K11 _ hq_)) (by omega) (by omega) (by omega)
        · have h := itf c15 h
          refine G_aload_n F dX8_read_24 rfl ?_
          obtain ⟨v16, e_v16, h⟩ := bnd h
          refine G_getI F okX8 (f := 2) (by decide) q448 rfl dX8_read_25 e_v16 ?_
          refine G_aload_n F dX8_read_28 rfl ?_
          obtain ⟨v17, e_v17, h⟩ := bnd h
          refine G_getI F okX8 (f := 0) (by decide) q445 rfl dX8_read_29 e_v17 ?_
          refine G_icmp_ge F (tgt := 39) dX8_read_32 (by decide) (fun c18 => ?_) (fun c18 => ?_)
          · have h := itt c18 h
            refine G_iconst F (v := (0 : Int32)) dX8_read_39 (by decide) ?_
            obtain ⟨hq_, hd_, hc_⟩ := lf3 h
            exact G_cnt (G_sub F (L2 := [some (.inr a0), none]) ⟨rfl, trivial⟩ (K11 _ hq_)) (by omega) (by omega) (by omega)
          · have h := itf c18 h
            refine G_iconst F (v := (1 : Int32)) dX8_read_35 (by decide) ?_
            refine G_goto F (tgt := 40) dX8_read_36 (by decide) ?_
            obtain ⟨hq_, hd_, hc_⟩ := lf3 h
            exact G_cnt (G_sub F (L2 := [some (.inr a0), none]) ⟨rfl, trivial⟩ (K11 _ hq_)) (by omega) (by omega) (by omega)
  have hI := iterA_ok dc ds (fun (s : (Int32 × Hp)) nx1 k1 n1 => match s with | (s1_1, m1) => G X cx 2 (Qm X cx (some (.inl rv)) m_ nx dc ds) (k1) (n1) m1 (nx1) [some (.inr a0), some (.inl s1_1)] [] 2) (fun q a_ b_ c_ => q = r1 ∧ a_ = nx + e1 ∧ b_ = 0 + e1 ∧ c_ = 0 + f1) KB1 _ _ _ _ _ _ _ _ hr1 (by omega) (by omega) ⟨rfl, rfl, rfl, rfl⟩
  exact G_sub F (L2 := [some (.inr a0), some (.inl (1 : Int32))]) ⟨rfl, ⟨rfl, trivial⟩⟩ hI

theorem metX0_law (X : Gx) {m : Hp} {nx : Nat} {a0 : Option Nat} {a1 : Int32} {rv : Int32} {m_ : Hp} {dc ds : Nat} (h : fX0_law m nx a0 a1 = some ((rv, m_), dc, ds)) : Con X (428) yX0_law cX0_law 4 ((Option.some FieldType.int)) [.inr a0, .inl a1] m nx (some (.inl rv)) m_ dc ds := by
  refine Con.of (own := RX0) (nm := "law") (L := [some (.inr a0), some (.inl a1), none, none]) (by decide +kernel) rfl rfl (Nat.le_of_ble_eq_true rfl) (ent_of 2 rfl) ?_
  intro cx F
  refine G_iload_n F dX0_law_0 rfl ?_
  refine G_iconst F (v := (1 : Int32)) dX0_law_1 (by decide) ?_
  refine G_sipush F (v := (240 : Int32)) dX0_law_2 (by decide) ?_
  obtain ⟨v1, e_v1, h⟩ := bnd h
  refine G_callSv F (As := [.inl a1, .inl (1 : Int32), .inl (240 : Int32)]) (st := []) (metX0_within X e_v1) (lw_S q422 q423 q102 q424) hdfX0_within ⟨by omega, by decide⟩ rfl (Nat.le_of_ble_eq_true rfl) ⟨by omega, by omega⟩ dX0_law_5 ?_
  refine G_if_eq F (tgt := 19) dX0_law_8 (by decide) (fun c2 => ?_) (fun c2 => ?_)
  · have h := itt c2 h
    refine G_iconst F (v := (-1 : Int32)) dX0_law_19 (by decide) ?_
    cases h
    exact G_iret F rfl (by omega) (by omega) (by omega) dX0_law_20
  · have h := itf c2 h
    refine G_iload_n F dX0_law_11 rfl ?_
    refine G_aload_n F dX0_law_12 rfl ?_
    obtain ⟨v3, e_v3, h⟩ := bnd h
    refine G_getI F okX0 (f := 12) (by decide) q350 rfl dX0_law_13 e_v3 ?_
    refine G_icmp_le F (tgt := 21) dX0_law_16 (by decide) (fun c4 => ?_) (fun c4 => ?_)
    · have h := itt c4 h
      refine G_aload_n F dX0_law_21 rfl ?_
      refine G_iconst F (v := (0 : Int32)) dX0_law_22 (by decide) ?_
      obtain ⟨m5, e_m5, h⟩ := bnd h
      refine G_putV F okX0 (f := 12) (by decide) q350 rfl rfl dX0_law_23 (vfit_int _) e_m5 ?_
      obtain ⟨m6, e_m6, h⟩ := bnd h
      obtain ⟨D7, C7, h, hD7, hC7⟩ := andA_of h; try dsimp only at hD7 hC7
      refine G_newc F okX8 (fs := dfX8) q437 q438 q110 (by decide) (by omega) (by omega) dX0_law_26 e_m6 ?_
      refine G_dup F dX0_law_29 ?_
      refine G_aload_n F dX0_law_30 rfl ?_
      refine G_iload_n F dX0_law_31 rfl ?_
      obtain ⟨⟨m8, d9, c10⟩, e_m8, h⟩ := bnd h
      obtain ⟨D11, C11, h, hD11, hC11⟩ := andA_of h; try dsimp only at hD11 hC11
      refine G_callI0 F (As := [.inr a0, .inl a1]) (st := [.inr (some (nx))]) (metX8_init X e_m8) q441 q110 q439 q440 rfl hdfX8_init ⟨by omega, by decide⟩ rfl (Nat.le_of_ble_eq_true rfl) ⟨by omega, by omega⟩ dX0_law_32 ?_
      refine G_astore_n F (L2 := [some (.inr a0), some (.inl a1), some (.inr (some (nx))), none]) dX0_law_35 (by decide) rfl ?_
      refine G_aload_n F dX0_law_36 rfl ?_
      obtain ⟨⟨⟨v12, m13⟩, d14, c15⟩, e_v12, h⟩ := bnd h
      obtain ⟨D16, C16, h, hD16, hC16⟩ := andA_of h; try dsimp only at hD16 hC16
      obtain ⟨hc_v12, e_v12⟩ := hp_on_of e_v12
      refine G_callVv F (As := []) (st := []) (metX8_read X e_v12) hc_v12 rfl rfl (lw_V q468 q469 q470 q110 q471) hdfX8_read ⟨by omega, by decide⟩ rfl (Nat.le_of_ble_eq_true rfl) ⟨by omega, by omega⟩ dX0_law_37 ?_
      refine G_istore_n F (L2 := [some (.inr a0), some (.inl a1), some (.inr (some (nx))), some (.inl v12)]) dX0_law_40 (by decide) rfl ?_
      refine G_iload_n F dX0_law_41 rfl ?_
      refine G_if_lt F (tgt := 53) dX0_law_42 (by decide) (fun c17 => ?_) (fun c17 => ?_)
      · have h := itt c17 h
        refine G_iload_n F dX0_law_53 rfl ?_
        cases h
        exact G_iret F rfl (by omega) (by omega) (by omega) dX0_law_54
      · have h := itf c17 h
        refine G_aload_n F dX0_law_45 rfl ?_
        refine G_aload_n F dX0_law_46 rfl ?_
        obtain ⟨v18, e_v18, h⟩ := bnd h
        refine G_getRN F okX8 (f := 1) (by decide) q447 rfl dX0_law_47 e_v18 ?_
        obtain ⟨m19, e_m19, h⟩ := bnd h
        refine G_putV F okX0 (f := 11) (by decide) q349 rfl rfl dX0_law_50 (vfit_obj _ _) e_m19 ?_
        refine G_iload_n F dX0_law_53 rfl ?_
        cases h
        exact G_iret F rfl (by omega) (by omega) (by omega) dX0_law_54
    · have h := itf c4 h
      refine G_iconst F (v := (-1 : Int32)) dX0_law_19 (by decide) ?_
      cases h
      exact G_iret F rfl (by omega) (by omega) (by omega) dX0_law_20

theorem metX17_initc (X : Gx) {m : Hp} {nx : Nat} {a0 : Nat} {a1 : Option Nat} {a2 : Int32} {m_ : Hp} (h : fX17_init 14 m a0 a1 a2 = some m_) : Con X (2) yX17_init cX17_init 3 ((none : Option FieldType)) [.inr (some a0), .inr a1, .inl a2] m nx none m_ 0 0 := by
  refine Con.of (own := RX17) (nm := "<init>") (L := [some (.inr (some a0)), some (.inr a1), some (.inl a2)]) (by decide +kernel) rfl rfl (Nat.le_of_ble_eq_true rfl) (ent_of 0 rfl) ?_
  intro cx F
  refine G_aload_n F dX17_init_0 rfl ?_
  refine G_aload_n F dX17_init_1 rfl ?_
  obtain ⟨m1, e_m1, h⟩ := bnd h
  refine G_putVF F okX18 (f := 4) (by decide) q725 rfl rfl rfl dX17_init_2 (vfit_obj _ _) e_m1 ?_
  refine G_aload_n F dX17_init_5 rfl ?_
  refine G_objInit F q714 q134 q135 (by omega) (Nat.le_of_ble_eq_true rfl) dX17_init_6 ?_
  refine G_aload_n F dX17_init_9 rfl ?_
  refine G_iload_n F dX17_init_10 rfl ?_
  obtain ⟨m2, e_m2, h⟩ := bnd h
  refine G_putVF F okX18 (f := 0) (by decide) q721 rfl rfl rfl dX17_init_11 (vfit_int _) e_m2 ?_
  cases h
  exact G_vret F rfl (Nat.le_refl _) (Nat.le_refl _) rfl dX17_init_14

theorem metX17_initp (X : Gx) {m : Hp} {nx : Nat} {a0 : Nat} {a1 : Option Nat} {a2 : Int32} {m_ : Hp} (h : fX17_init 15 m a0 a1 a2 = some m_) : Con X (2) yX17_init cX17_init 3 ((none : Option FieldType)) [.inr (some a0), .inr a1, .inl a2] m nx none m_ 0 0 := by
  refine Con.of (own := RX17) (nm := "<init>") (L := [some (.inr (some a0)), some (.inr a1), some (.inl a2)]) (by decide +kernel) rfl rfl (Nat.le_of_ble_eq_true rfl) (ent_of 0 rfl) ?_
  intro cx F
  refine G_aload_n F dX17_init_0 rfl ?_
  refine G_aload_n F dX17_init_1 rfl ?_
  obtain ⟨m1, e_m1, h⟩ := bnd h
  refine G_putVF F okX19 (f := 4) (by decide) q725 rfl rfl rfl dX17_init_2 (vfit_obj _ _) e_m1 ?_
  refine G_aload_n F dX17_init_5 rfl ?_
  refine G_objInit F q714 q134 q135 (by omega) (Nat.le_of_ble_eq_true rfl) dX17_init_6 ?_
  refine G_aload_n F dX17_init_9 rfl ?_
  refine G_iload_n F dX17_init_10 rfl ?_
  obtain ⟨m2, e_m2, h⟩ := bnd h
  refine G_putVF F okX19 (f := 0) (by decide) q721 rfl rfl rfl dX17_init_11 (vfit_int _) e_m2 ?_
  cases h
  exact G_vret F rfl (Nat.le_refl _) (Nat.le_refl _) rfl dX17_init_14

theorem metX18_init (X : Gx) {m : Hp} {nx : Nat} {a0 : Nat} {a1 : Option Nat} {a2 : Int32} {m_ : Hp} {dc ds : Nat} (h : fX18_init m nx a0 a1 a2 = some (m_, dc, ds)) : Con X (3) yX18_init cX18_init 3 ((none : Option FieldType)) [.inr (some a0), .inr a1, .inl a2] m nx none m_ dc ds := by
  refine Con.of (own := RX18) (nm := "<init>") (L := [some (.inr (some a0)), some (.inr a1), some (.inl a2)]) (by decide +kernel) rfl rfl (Nat.le_of_ble_eq_true rfl) (ent_of 0 rfl) ?_
  intro cx F
  refine G_aload_n F dX18_init_0 rfl ?_
  refine G_aload_n F dX18_init_1 rfl ?_
  obtain ⟨m1, e_m1, h⟩ := bnd h
  refine G_putVF F okX18 (f := 9) (by decide) q720 rfl rfl rfl dX18_init_2 (vfit_obj _ _) e_m1 ?_
  refine G_aload_n F dX18_init_5 rfl ?_
  refine G_aload_n F dX18_init_6 rfl ?_
  refine G_iload_n F dX18_init_7 rfl ?_
  obtain ⟨m2, e_m2, h⟩ := bnd h
  refine G_callI0 F (As := [.inr a1, .inl a2]) (st := []) (metX17_initc X e_m2) q713 q125 q711 q712 rfl hdfX17_init ⟨by omega, by decide⟩ rfl (Nat.le_of_ble_eq_true rfl) ⟨by omega, by omega⟩ dX18_init_8 ?_
  refine G_aload_n F dX18_init_11 rfl ?_
  refine G_bipush F (v := (16 : Int32)) dX18_init_12 (by decide) ?_
  obtain ⟨m3, e_m3, h⟩ := bnd h
  obtain ⟨D4, C4, h, hD4, hC4⟩ := andA_of h; try dsimp only at hD4 hC4
  refine G_newrc F (t := 5) (N := 16) q715 q137 rfl (by decide) (by decide) (by decide) (by decide) (by omega) (by omega) dX18_init_14 e_m3 ?_
  obtain ⟨m5, e_m5, h⟩ := bnd h
  refine G_putVF F okX18 (f := 5) (by decide) q716 rfl rfl rfl dX18_init_17 (vfit_arr _ _) e_m5 ?_
  refine G_aload_n F dX18_init_20 rfl ?_
  refine G_bipush F (v := (16 : Int32)) dX18_init_21 (by decide) ?_
  obtain ⟨m6, e_m6, h⟩ := bnd h
  obtain ⟨D7, C7, h, hD7, hC7⟩ := andA_of h; try dsimp only at hD7 hC7
  refine G_newac F (t := 0) (N := 16) q180 rfl (by decide) (by decide) (by decide) (by decide) (by omega) (by omega) dX18_init_23 e_m6 ?_
  obtain ⟨m8, e_m8, h⟩ := bnd h
  refine G_putVF F okX18 (f := 6) (by decide) q717 rfl rfl rfl dX18_init_25 (vfit_arr _ _) e_m8 ?_
  refine G_aload_n F dX18_init_28 rfl ?_
  refine G_bipush F (v := (16 : Int32)) dX18_init_29 (by decide) ?_
  obtain ⟨m9, e_m9, h⟩ := bnd h
  obtain ⟨D10, C10, h, hD10, hC10⟩ := andA_of h; try dsimp only at hD10 hC10
  refine G_newac F (t := 0) (N := 16) q180 rfl (by decide) (by decide) (by decide) (by decide) (by omega) (by omega) dX18_init_31 e_m9 ?_
  obtain ⟨m11, e_m11, h⟩ := bnd h
  refine G_putVF F okX18 (f := 7) (by decide) q718 rfl rfl rfl dX18_init_33 (vfit_arr _ _) e_m11 ?_
  cases h
  exact G_vret F rfl (by omega) (by omega) (by omega) dX18_init_36

theorem metX17_placec (X : Gx) {m : Hp} {nx : Nat} {a0 : Option Nat} {rv : Int32} (h : fX17_place 14 m a0 = some rv) : Con X (1) yX17_place cX17_place 1 ((Option.some FieldType.int)) [.inr a0] m nx (some (.inl rv)) m 0 0 := by
  refine Con.of (own := RX17) (nm := "place") (L := [some (.inr a0)]) (by decide +kernel) rfl rfl (Nat.le_of_ble_eq_true rfl) (ent_of 0 rfl) ?_
  intro cx F
  refine G_aload_n F dX17_place_0 rfl ?_
  obtain ⟨v1, e_v1, h⟩ := bnd h
  refine G_getI F okX18 (f := 1) (by decide) q722 rfl dX17_place_1 e_v1 ?_
  cases h
  exact G_iret F rfl (Nat.le_refl _) (Nat.le_refl _) rfl dX17_place_4

theorem metX17_placep (X : Gx) {m : Hp} {nx : Nat} {a0 : Option Nat} {rv : Int32} (h : fX17_place 15 m a0 = some rv) : Con X (1) yX17_place cX17_place 1 ((Option.some FieldType.int)) [.inr a0] m nx (some (.inl rv)) m 0 0 := by
  refine Con.of (own := RX17) (nm := "place") (L := [some (.inr a0)]) (by decide +kernel) rfl rfl (Nat.le_of_ble_eq_true rfl) (ent_of 0 rfl) ?_
  intro cx F
  refine G_aload_n F dX17_place_0 rfl ?_
  obtain ⟨v1, e_v1, h⟩ := bnd h
  refine G_getI F okX19 (f := 1) (by decide) q722 rfl dX17_place_1 e_v1 ?_
  cases h
  exact G_iret F rfl (Nat.le_refl _) (Nat.le_refl _) rfl dX17_place_4

theorem metX17_herec (X : Gx) {m : Hp} {nx : Nat} {a0 : Option Nat} {rv : Int32} (h : fX17_here 14 m a0 = some rv) : Con X (1) yX17_here cX17_here 1 ((Option.some FieldType.int)) [.inr a0] m nx (some (.inl rv)) m 0 0 := by
  refine Con.of (own := RX17) (nm := "here") (L := [some (.inr a0)]) (by decide +kernel) rfl rfl (Nat.le_of_ble_eq_true rfl) (ent_of 0 rfl) ?_
  intro cx F
  refine G_aload_n F dX17_here_0 rfl ?_
  obtain ⟨v1, e_v1, h⟩ := bnd h
  refine G_getI F okX18 (f := 1) (by decide) q722 rfl dX17_here_1 e_v1 ?_
  refine G_aload_n F dX17_here_4 rfl ?_
  obtain ⟨v2, e_v2, h⟩ := bnd h
  refine G_getI F okX18 (f := 0) (by decide) q721 rfl dX17_here_5 e_v2 ?_
  refine G_icmp_ge F (tgt := 30) dX17_here_8 (by decide) (fun c3 => ?_) (fun c3 => ?_)
  · have h := itt c3 h
    refine G_iconst F (v := (0 : Int32)) dX17_here_30 (by decide) ?_
    cases h
    exact G_iret F rfl (Nat.le_refl _) (Nat.le_refl _) rfl dX17_here_31
  · have h := itf c3 h
    refine G_aload_n F dX17_here_11 rfl ?_
    obtain ⟨v4, e_v4, h⟩ := bnd h
    refine G_getR F okX18 (f := 4) (by decide) q725 rfl dX17_here_12 e_v4 ?_
    obtain ⟨v5, e_v5, h⟩ := bnd h
    refine G_getRN F okX0 (f := 10) (by decide) q346 rfl dX17_here_15 e_v5 ?_
    refine G_aload_n F dX17_here_18 rfl ?_
    obtain ⟨v6, e_v6, h⟩ := bnd h
    refine G_getI F okX18 (f := 1) (by decide) q722 rfl dX17_here_19 e_v6 ?_
    obtain ⟨v7, e_v7, h⟩ := bnd h
    refine G_bald F dX17_here_22 e_v7 ?_
    refine G_sipush F (v := (255 : Int32)) dX17_here_23 (by decide) ?_
    refine G_iand F dX17_here_26 ?_
    refine G_goto F (tgt := 31) dX17_here_27 (by decide) ?_
    cases h
    exact G_iret F rfl (Nat.le_refl _) (Nat.le_refl _) rfl dX17_here_31

theorem metX17_herep (X : Gx) {m : Hp} {nx : Nat} {a0 : Option Nat} {rv : Int32} (h : fX17_here 15 m a0 = some rv) : Con X (1) yX17_here cX17_here 1 ((Option.some FieldType.int)) [.inr a0] m nx (some (.inl rv)) m 0 0 := by
  refine Con.of (own := RX17) (nm := "here") (L := [some (.inr a0)]) (by decide +kernel) rfl rfl (Nat.le_of_ble_eq_true rfl) (ent_of 0 rfl) ?_
  intro cx F
  refine G_aload_n F dX17_here_0 rfl ?_
  obtain ⟨v1, e_v1, h⟩ := bnd h
  refine G_getI F okX19 (f := 1) (by decide) q722 rfl dX17_here_1 e_v1 ?_
  refine G_aload_n F dX17_here_4 rfl ?_
  obtain ⟨v2, e_v2, h⟩ := bnd h
  refine G_getI F okX19 (f := 0) (by decide) q721 rfl dX17_here_5 e_v2 ?_
  refine G_icmp_ge F (tgt := 30) dX17_here_8 (by decide) (fun c3 => ?_) (fun c3 => ?_)
  · have h := itt c3 h
    refine G_iconst F (v := (0 : Int32)) dX17_here_30 (by decide) ?_
    cases h
    exact G_iret F rfl (Nat.le_refl _) (Nat.le_refl _) rfl dX17_here_31
  · have h := itf c3 h
    refine G_aload_n F dX17_here_11 rfl ?_
    obtain ⟨v4, e_v4, h⟩ := bnd h
    refine G_getR F okX19 (f := 4) (by decide) q725 rfl dX17_here_12 e_v4 ?_
    obtain ⟨v5, e_v5, h⟩ := bnd h
    refine G_getRN F okX0 (f := 10) (by decide) q346 rfl dX17_here_15 e_v5 ?_
    refine G_aload_n F dX17_here_18 rfl ?_
    obtain ⟨v6, e_v6, h⟩ := bnd h
    refine G_getI F okX19 (f := 1) (by decide) q722 rfl dX17_here_19 e_v6 ?_
    obtain ⟨v7, e_v7, h⟩ := bnd h
    refine G_bald F dX17_here_22 e_v7 ?_
    refine G_sipush F (v := (255 : Int32)) dX17_here_23 (by decide) ?_
    refine G_iand F dX17_here_26 ?_
    refine G_goto F (tgt := 31) dX17_here_27 (by decide) ?_
    cases h
    exact G_iret F rfl (Nat.le_refl _) (Nat.le_refl _) rfl dX17_here_31

theorem metX17_seesc (X : Gx) {m : Hp} {nx : Nat} {a0 : Option Nat} {a1 : Int32} {a2 : Int32} {rv : Int32} (h : fX17_sees 14 m a0 a1 a2 = some rv) : Con X (2) yX17_sees cX17_sees 3 ((Option.some FieldType.boolean)) [.inr a0, .inl a1, .inl a2] m nx (some (.inl rv)) m 0 0 := by
  refine Con.of (own := RX17) (nm := "sees") (L := [some (.inr a0), some (.inl a1), some (.inl a2)]) (by decide +kernel) rfl rfl (Nat.le_of_ble_eq_true rfl) (ent_of 0 rfl) ?_
  intro cx F
  refine G_aload_n F dX17_sees_0 rfl ?_
  obtain ⟨v1, e_v1, h⟩ := bnd h
  obtain ⟨hc_v1, e_v1⟩ := hp_on_of e_v1
  refine G_callUv F (As := []) (st := []) (x := ⟨"MissedTrains$Scribe", "here", "()I"⟩) (owner := "MissedTrains$Scribe") (metX17_herec X e_v1) hc_v1 rfl (lw_U q775 q777 q778 q776 q125 q780) rfl hdfX17_here ⟨by omega, by decide⟩ rfl (Nat.le_of_ble_eq_true rfl) ⟨by omega, by omega⟩ dX17_sees_1 ?_
  refine G_iload_n F dX17_sees_4 rfl ?_
  refine G_icmp_lt F (tgt := 20) dX17_sees_5 (by decide) (fun c2 => ?_) (fun c2 => ?_)
  · have h := itt c2 h
    refine G_iconst F (v := (0 : Int32)) dX17_sees_20 (by decide) ?_
    cases h
    exact G_zret F rfl (Or.inl rfl) (Nat.le_refl _) (Nat.le_refl _) rfl dX17_sees_21
  · have h := itf c2 h
    refine G_aload_n F dX17_sees_8 rfl ?_
    obtain ⟨v3, e_v3, h⟩ := bnd h
    obtain ⟨hc_v3, e_v3⟩ := hp_on_of e_v3
    refine G_callUv F (As := []) (st := []) (x := ⟨"MissedTrains$Scribe", "here", "()I"⟩) (owner := "MissedTrains$Scribe") (metX17_herec X e_v3) hc_v3 rfl (lw_U q775 q777 q778 q776 q125 q780) rfl hdfX17_here ⟨by omega, by decide⟩ rfl (Nat.le_of_ble_eq_true rfl) ⟨by omega, by omega⟩ dX17_sees_9 ?_
    refine G_iload_n F dX17_sees_12 rfl ?_
    refine G_icmp_gt F (tgt := 20) dX17_sees_13 (by decide) (fun c4 => ?_) (fun c4 => ?_)
    · have h := itt c4 h
      refine G_iconst F (v := (0 : Int32)) dX17_sees_20 (by decide) ?_
      cases h
      exact G_zret F rfl (Or.inl rfl) (Nat.le_refl _) (Nat.le_refl _) rfl dX17_sees_21
    · have h := itf c4 h
      refine G_iconst F (v := (1 : Int32)) dX17_sees_16 (by decide) ?_
      refine G_goto F (tgt := 21) dX17_sees_17 (by decide) ?_
      cases h
      exact G_zret F rfl (Or.inr rfl) (Nat.le_refl _) (Nat.le_refl _) rfl dX17_sees_21

theorem metX17_seesp (X : Gx) {m : Hp} {nx : Nat} {a0 : Option Nat} {a1 : Int32} {a2 : Int32} {rv : Int32} (h : fX17_sees 15 m a0 a1 a2 = some rv) : Con X (2) yX17_sees cX17_sees 3 ((Option.some FieldType.boolean)) [.inr a0, .inl a1, .inl a2] m nx (some (.inl rv)) m 0 0 := by
  refine Con.of (own := RX17) (nm := "sees") (L := [some (.inr a0), some (.inl a1), some (.inl a2)]) (by decide +kernel) rfl rfl (Nat.le_of_ble_eq_true rfl) (ent_of 0 rfl) ?_
  intro cx F
  refine G_aload_n F dX17_sees_0 rfl ?_
  obtain ⟨v1, e_v1, h⟩ := bnd h
  obtain ⟨hc_v1, e_v1⟩ := hp_on_of e_v1
  refine G_callUv F (As := []) (st := []) (x := ⟨"MissedTrains$Scribe", "here", "()I"⟩) (owner := "MissedTrains$Scribe") (metX17_herep X e_v1) hc_v1 rfl (lw_U q775 q777 q779 q776 q125 q780) rfl hdfX17_here ⟨by omega, by decide⟩ rfl (Nat.le_of_ble_eq_true rfl) ⟨by omega, by omega⟩ dX17_sees_1 ?_
  refine G_iload_n F dX17_sees_4 rfl ?_
  refine G_icmp_lt F (tgt := 20) dX17_sees_5 (by decide) (fun c2 => ?_) (fun c2 => ?_)
  · have h := itt c2 h
    refine G_iconst F (v := (0 : Int32)) dX17_sees_20 (by decide) ?_
    cases h
    exact G_zret F rfl (Or.inl rfl) (Nat.le_refl _) (Nat.le_refl _) rfl dX17_sees_21
  · have h := itf c2 h
    refine G_aload_n F dX17_sees_8 rfl ?_
    obtain ⟨v3, e_v3, h⟩ := bnd h
    obtain ⟨hc_v3, e_v3⟩ := hp_on_of e_v3
    refine G_callUv F (As := []) (st := []) (x := ⟨"MissedTrains$Scribe", "here", "()I"⟩) (owner := "MissedTrains$Scribe") (metX17_herep X e_v3) hc_v3 rfl (lw_U q775 q777 q779 q776 q125 q780) rfl hdfX17_here ⟨by omega, by decide⟩ rfl (Nat.le_of_ble_eq_true rfl) ⟨by omega, by omega⟩ dX17_sees_9 ?_
    refine G_iload_n F dX17_sees_12 rfl ?_
    refine G_icmp_gt F (tgt := 20) dX17_sees_13 (by decide) (fun c4 => ?_) (fun c4 => ?_)
    · have h := itt c4 h
      refine G_iconst F (v := (0 : Int32)) dX17_sees_20 (by decide) ?_
      cases h
      exact G_zret F rfl (Or.inl rfl) (Nat.le_refl _) (Nat.le_refl _) rfl dX17_sees_21
    · have h := itf c4 h
      refine G_iconst F (v := (1 : Int32)) dX17_sees_16 (by decide) ?_
      refine G_goto F (tgt := 21) dX17_sees_17 (by decide) ?_
      cases h
      exact G_zret F rfl (Or.inr rfl) (Nat.le_refl _) (Nat.le_refl _) rfl dX17_sees_21

theorem metX18_seesStation (X : Gx) {m : Hp} {nx : Nat} {a0 : Option Nat} {rv : Int32} (h : fX18_seesStation m a0 = some rv) : Con X (3) yX18_seesStation cX18_seesStation 1 ((Option.some FieldType.boolean)) [.inr a0] m nx (some (.inl rv)) m 0 0 := by
  refine Con.of (own := RX18) (nm := "seesStation") (L := [some (.inr a0)]) (by decide +kernel) rfl rfl (Nat.le_of_ble_eq_true rfl) (ent_of 0 rfl) ?_
  intro cx F
  refine G_aload_n F dX18_seesStation_0 rfl ?_
  refine G_bipush F (v := (97 : Int32)) dX18_seesStation_1 (by decide) ?_
  refine G_bipush F (v := (106 : Int32)) dX18_seesStation_3 (by decide) ?_
  obtain ⟨v1, e_v1, h⟩ := bnd h
  obtain ⟨hc_v1, e_v1⟩ := hp_on_of e_v1
  refine G_callUv F (As := [.inl (97 : Int32), .inl (106 : Int32)]) (st := []) (x := ⟨"MissedTrains$Clerk", "sees", "(II)Z"⟩) (owner := "MissedTrains$Scribe") (metX17_seesc X e_v1) hc_v1 rfl (lw_U q769 q770 q772 q773 q125 q774) rfl hdfX17_sees ⟨by omega, by decide⟩ rfl (Nat.le_of_ble_eq_true rfl) ⟨by omega, by omega⟩ dX18_seesStation_5 ?_
  obtain ⟨z2, e_z2, h⟩ := bnd h
  have hz_ := hp_z_of e_z2
  cases h
  exact G_zretz F rfl hz_ (Nat.le_refl _) (Nat.le_refl _) rfl dX18_seesStation_8

theorem metX17_badc (X : Gx) {m : Hp} {nx : Nat} {a0 : Option Nat} {a1 : Int32} {a2 : Int32} {m_ : Hp} (h : fX17_bad 14 m a0 a1 a2 = some m_) : Con X (1) yX17_bad cX17_bad 3 ((none : Option FieldType)) [.inr a0, .inl a1, .inl a2] m nx none m_ 0 0 := by
  refine Con.of (own := RX17) (nm := "bad") (L := [some (.inr a0), some (.inl a1), some (.inl a2)]) (by decide +kernel) rfl rfl (Nat.le_of_ble_eq_true rfl) (ent_of 0 rfl) ?_
  intro cx F
  refine G_aload_n F dX17_bad_0 rfl ?_
  obtain ⟨v1, e_v1, h⟩ := bnd h
  refine G_getI F okX18 (f := 2) (by decide) q723 rfl dX17_bad_1 e_v1 ?_
  refine G_if_le F (tgt := 8) dX17_bad_4 (by decide) (fun c2 => ?_) (fun c2 => ?_)
  · have h := itt c2 h
    refine G_aload_n F dX17_bad_8 rfl ?_
    refine G_iload_n F dX17_bad_9 rfl ?_
    obtain ⟨m3, e_m3, h⟩ := bnd h
    refine G_putV F okX18 (f := 2) (by decide) q723 rfl rfl dX17_bad_10 (vfit_int _) e_m3 ?_
    refine G_aload_n F dX17_bad_13 rfl ?_
    refine G_iload_n F dX17_bad_14 rfl ?_
    obtain ⟨m4, e_m4, h⟩ := bnd h
    refine G_putV F okX18 (f := 3) (by decide) q724 rfl rfl dX17_bad_15 (vfit_int _) e_m4 ?_
    cases h
    exact G_vret F rfl (Nat.le_refl _) (Nat.le_refl _) rfl dX17_bad_18
  · have h := itf c2 h
    cases h
    exact G_vret F rfl (Nat.le_refl _) (Nat.le_refl _) rfl dX17_bad_7

theorem metX17_badp (X : Gx) {m : Hp} {nx : Nat} {a0 : Option Nat} {a1 : Int32} {a2 : Int32} {m_ : Hp} (h : fX17_bad 15 m a0 a1 a2 = some m_) : Con X (1) yX17_bad cX17_bad 3 ((none : Option FieldType)) [.inr a0, .inl a1, .inl a2] m nx none m_ 0 0 := by
  refine Con.of (own := RX17) (nm := "bad") (L := [some (.inr a0), some (.inl a1), some (.inl a2)]) (by decide +kernel) rfl rfl (Nat.le_of_ble_eq_true rfl) (ent_of 0 rfl) ?_
  intro cx F
  refine G_aload_n F dX17_bad_0 rfl ?_
  obtain ⟨v1, e_v1, h⟩ := bnd h
  refine G_getI F okX19 (f := 2) (by decide) q723 rfl dX17_bad_1 e_v1 ?_
  refine G_if_le F (tgt := 8) dX17_bad_4 (by decide) (fun c2 => ?_) (fun c2 => ?_)
  · have h := itt c2 h
    refine G_aload_n F dX17_bad_8 rfl ?_
    refine G_iload_n F dX17_bad_9 rfl ?_
    obtain ⟨m3, e_m3, h⟩ := bnd h
    refine G_putV F okX19 (f := 2) (by decide) q723 rfl rfl dX17_bad_10 (vfit_int _) e_m3 ?_
    refine G_aload_n F dX17_bad_13 rfl ?_
    refine G_iload_n F dX17_bad_14 rfl ?_
    obtain ⟨m4, e_m4, h⟩ := bnd h
    refine G_putV F okX19 (f := 3) (by decide) q724 rfl rfl dX17_bad_15 (vfit_int _) e_m4 ?_
    cases h
    exact G_vret F rfl (Nat.le_refl _) (Nat.le_refl _) rfl dX17_bad_18
  · have h := itf c2 h
    cases h
    exact G_vret F rfl (Nat.le_refl _) (Nat.le_refl _) rfl dX17_bad_7

theorem metX17_isGoodc (X : Gx) {m : Hp} {nx : Nat} {a0 : Option Nat} {rv : Int32} (h : fX17_isGood 14 m a0 = some rv) : Con X (1) yX17_isGood cX17_isGood 1 ((Option.some FieldType.boolean)) [.inr a0] m nx (some (.inl rv)) m 0 0 := by
  refine Con.of (own := RX17) (nm := "isGood") (L := [some (.inr a0)]) (by decide +kernel) rfl rfl (Nat.le_of_ble_eq_true rfl) (ent_of 0 rfl) ?_
  intro cx F
  refine G_aload_n F dX17_isGood_0 rfl ?_
  obtain ⟨v1, e_v1, h⟩ := bnd h
  refine G_getI F okX18 (f := 2) (by decide) q723 rfl dX17_isGood_1 e_v1 ?_
  refine G_if_ne F (tgt := 11) dX17_isGood_4 (by decide) (fun c2 => ?_) (fun c2 => ?_)
  · have h := itf c2 h
    refine G_iconst F (v := (0 : Int32)) dX17_isGood_11 (by decide) ?_
    cases h
    exact G_zret F rfl (Or.inl rfl) (Nat.le_refl _) (Nat.le_refl _) rfl dX17_isGood_12
  · have h := itt c2 h
    refine G_iconst F (v := (1 : Int32)) dX17_isGood_7 (by decide) ?_
    refine G_goto F (tgt := 12) dX17_isGood_8 (by decide) ?_
    cases h
    exact G_zret F rfl (Or.inr rfl) (Nat.le_refl _) (Nat.le_refl _) rfl dX17_isGood_12

theorem metX17_isGoodp (X : Gx) {m : Hp} {nx : Nat} {a0 : Option Nat} {rv : Int32} (h : fX17_isGood 15 m a0 = some rv) : Con X (1) yX17_isGood cX17_isGood 1 ((Option.some FieldType.boolean)) [.inr a0] m nx (some (.inl rv)) m 0 0 := by
  refine Con.of (own := RX17) (nm := "isGood") (L := [some (.inr a0)]) (by decide +kernel) rfl rfl (Nat.le_of_ble_eq_true rfl) (ent_of 0 rfl) ?_
  intro cx F
  refine G_aload_n F dX17_isGood_0 rfl ?_
  obtain ⟨v1, e_v1, h⟩ := bnd h
  refine G_getI F okX19 (f := 2) (by decide) q723 rfl dX17_isGood_1 e_v1 ?_
  refine G_if_ne F (tgt := 11) dX17_isGood_4 (by decide) (fun c2 => ?_) (fun c2 => ?_)
  · have h := itf c2 h
    refine G_iconst F (v := (0 : Int32)) dX17_isGood_11 (by decide) ?_
    cases h
    exact G_zret F rfl (Or.inl rfl) (Nat.le_refl _) (Nat.le_refl _) rfl dX17_isGood_12
  · have h := itt c2 h
    refine G_iconst F (v := (1 : Int32)) dX17_isGood_7 (by decide) ?_
    refine G_goto F (tgt := 12) dX17_isGood_8 (by decide) ?_
    cases h
    exact G_zret F rfl (Or.inr rfl) (Nat.le_refl _) (Nat.le_refl _) rfl dX17_isGood_12

theorem metX6_stopAt (X : Gx) {m : Hp} {nx : Nat} {a0 : Option Nat} {a1 : Int32} {rv : Int32} (h : fX6_stopAt m a0 a1 = some rv) : Con X (1) yX6_stopAt cX6_stopAt 3 ((Option.some FieldType.int)) [.inr a0, .inl a1] m nx (some (.inl rv)) m 0 0 := by
  refine Con.of (own := RX6) (nm := "stopAt") (L := [some (.inr a0), some (.inl a1), none]) (by decide +kernel) rfl rfl (Nat.le_of_ble_eq_true rfl) (ent_of 1 rfl) ?_
  intro cx F
  refine G_iconst F (v := (0 : Int32)) dX6_stopAt_0 (by decide) ?_
  refine G_istore_n F (L2 := [some (.inr a0), some (.inl a1), some (.inl (0 : Int32))]) dX6_stopAt_1 (by decide) rfl ?_
  obtain ⟨r1, hr1, h⟩ := bnd h
  have KE1 : ∀ (_ : Unit), Sum.inl () = r1 → G X cx 3 (Qm X cx (some (.inl rv)) m nx 0 0) (0) (0) m (nx) [none, none, none] [] 28 := by
    intro _ hq
    subst hq
    try dsimp only at h
    refine G_iconst F (v := (-1 : Int32)) dX6_stopAt_28 (by decide) ?_
    cases h
    exact G_iret F rfl (Nat.le_refl _) (Nat.le_refl _) rfl dX6_stopAt_29
  have KR1 : ∀ q, Sum.inr q = r1 → some q = some rv := by
    intro q hq
    subst hq
    exact h
  have KB1 : ∀ s o1, fX6_stopAt_L2 m a0 a1 s = some o1 → (∀ s', o1 = Sum.inl s' → (fun (s : Int32) => match s with | s2_1 => G X cx 3 (Qm X cx (some (.inl rv)) m nx 0 0) (0) (0) m (nx) [some (.inr a0), some (.inl a1), some (.inl s2_1)] [] 2) s') → (∀ q, o1 = Sum.inr q → q = r1) → (fun (s : Int32) => match s with | s2_1 => G X cx 3 (Qm X cx (some (.inl rv)) m nx 0 0) (0) (0) m (nx) [some (.inr a0), some (.inl a1), some (.inl s2_1)] [] 2) s := by
    intro s o1 h hP1 hE1
    obtain ⟨s2_1, hs_⟩ : ∃ x, x = s := ⟨_, rfl⟩
    subst hs_
    try dsimp only at hP1 hE1 ⊢
    refine G_iload_n F dX6_stopAt_2 rfl ?_
    refine G_aload_n F dX6_stopAt_3 rfl ?_
    obtain ⟨v2, e_v2, h⟩ := bnd h
    refine G_getI F okX6 (f := 2) (by decide) q303 rfl dX6_stopAt_4 e_v2 ?_
    refine G_icmp_ge F (tgt := 28) dX6_stopAt_7 (by decide) (fun c3 => ?_) (fun c3 => ?_)
    · have h := itt c3 h
      cases h
      exact G_sub F (L2 := [none, none, none]) trivial (KE1 () (hE1 _ rfl))
    · have h := itf c3 h
      refine G_aload_n F dX6_stopAt_10 rfl ?_
      obtain ⟨v4, e_v4, h⟩ := bnd h
      refine G_getR F okX6 (f := 0) (by decide) q295 rfl dX6_stopAt_11 e_v4 ?_
      refine G_iload_n F dX6_stopAt_14 rfl ?_
      obtain ⟨v5, e_v5, h⟩ := bnd h
      refine G_iald F dX6_stopAt_15 e_v5 ?_
      refine G_iload_n F dX6_stopAt_16 rfl ?_
      refine G_icmp_ne F (tgt := 22) dX6_stopAt_17 (by decide) (fun c6 => ?_) (fun c6 => ?_)
      · have h := itf c6 h
        refine G_iinc F (v := (s2_1 + (1 : Int32))) (L2 := [some (.inr a0), some (.inl a1), some (.inl (s2_1 + (1 : Int32)))]) dX6_stopAt_22 (by decide) rfl rfl rfl ?_
        refine G_goto F (tgt := 2) dX6_stopAt_25 (by decide) ?_
        cases h
        exact G_sub F (L2 := [some (.inr a0), some (.inl a1), some (.inl (s2_1 + (1 : Int32)))]) ⟨rfl, ⟨rfl, ⟨rfl, trivial⟩⟩⟩ (hP1 _ rfl)
      · have h := itt c6 h
        refine G_iload_n F dX6_stopAt_20 rfl ?_
        cases h
        have h := KR1 _ (hE1 _ rfl)
        cases h
        exact G_iret F rfl (Nat.le_refl _) (Nat.le_refl _) rfl dX6_stopAt_21
  have hI := iter_ok (fun (s : Int32) => match s with | s2_1 => G X cx 3 (Qm X cx (some (.inl rv)) m nx 0 0) (0) (0) m (nx) [some (.inr a0), some (.inl a1), some (.inl s2_1)] [] 2) (fun q => q = r1) KB1 _ _ _ hr1 rfl
  exact G_sub F (L2 := [some (.inr a0), some (.inl a1), some (.inl (0 : Int32))]) ⟨rfl, ⟨rfl, ⟨rfl, trivial⟩⟩⟩ hI

theorem metX17_goesc (X : Gx) {m : Hp} {nx : Nat} {a0 : Option Nat} {m_ : Hp} (h : fX17_goes 14 m a0 = some m_) : Con X (1) yX17_goes cX17_goes 1 ((none : Option FieldType)) [.inr a0] m nx none m_ 0 0 := by
  refine Con.of (own := RX17) (nm := "goes") (L := [some (.inr a0)]) (by decide +kernel) rfl rfl (Nat.le_of_ble_eq_true rfl) (ent_of 0 rfl) ?_
  intro cx F
  refine G_aload_n F dX17_goes_0 rfl ?_
  refine G_dup F dX17_goes_1 ?_
  obtain ⟨v1, e_v1, h⟩ := bnd h
  refine G_getI F okX18 (f := 1) (by decide) q722 rfl dX17_goes_2 e_v1 ?_
  refine G_iconst F (v := (1 : Int32)) dX17_goes_5 (by decide) ?_
  refine G_iadd F dX17_goes_6 ?_
  obtain ⟨m2, e_m2, h⟩ := bnd h
  refine G_putV F okX18 (f := 1) (by decide) q722 rfl rfl dX17_goes_7 (vfit_int _) e_m2 ?_
  cases h
  exact G_vret F rfl (Nat.le_refl _) (Nat.le_refl _) rfl dX17_goes_10

theorem metX17_goesp (X : Gx) {m : Hp} {nx : Nat} {a0 : Option Nat} {m_ : Hp} (h : fX17_goes 15 m a0 = some m_) : Con X (1) yX17_goes cX17_goes 1 ((none : Option FieldType)) [.inr a0] m nx none m_ 0 0 := by
  refine Con.of (own := RX17) (nm := "goes") (L := [some (.inr a0)]) (by decide +kernel) rfl rfl (Nat.le_of_ble_eq_true rfl) (ent_of 0 rfl) ?_
  intro cx F
  refine G_aload_n F dX17_goes_0 rfl ?_
  refine G_dup F dX17_goes_1 ?_
  obtain ⟨v1, e_v1, h⟩ := bnd h
  refine G_getI F okX19 (f := 1) (by decide) q722 rfl dX17_goes_2 e_v1 ?_
  refine G_iconst F (v := (1 : Int32)) dX17_goes_5 (by decide) ?_
  refine G_iadd F dX17_goes_6 ?_
  obtain ⟨m2, e_m2, h⟩ := bnd h
  refine G_putV F okX19 (f := 1) (by decide) q722 rfl rfl dX17_goes_7 (vfit_int _) e_m2 ?_
  cases h
  exact G_vret F rfl (Nat.le_refl _) (Nat.le_refl _) rfl dX17_goes_10

theorem metX17_numberc (X : Gx) {m : Hp} {nx : Nat} {a0 : Option Nat} {a1 : Int32} {a2 : Int32} {a3 : Int32} {rv : Int32} {m_ : Hp} (h : fX17_number 14 m a0 a1 a2 a3 = some (rv, m_)) : Con X (3) yX17_number cX17_number 6 ((Option.some FieldType.int)) [.inr a0, .inl a1, .inl a2, .inl a3] m nx (some (.inl rv)) m_ 0 0 := by
  refine Con.of (own := RX17) (nm := "number") (L := [some (.inr a0), some (.inl a1), some (.inl a2), some (.inl a3), none, none]) (by decide +kernel) rfl rfl (Nat.le_of_ble_eq_true rfl) (ent_of 2 rfl) ?_
  intro cx F
  refine G_iconst F (v := (0 : Int32)) dX17_number_0 (by decide) ?_
  refine G_istore F (L2 := [some (.inr a0), some (.inl a1), some (.inl a2), some (.inl a3), some (.inl (0 : Int32)), none]) dX17_number_1 (by decide) rfl ?_
  refine G_aload_n F dX17_number_3 rfl ?_
  obtain ⟨v1, e_v1, h⟩ := bnd h
  refine G_getI F okX18 (f := 1) (by decide) q722 rfl dX17_number_4 e_v1 ?_
  refine G_istore F (L2 := [some (.inr a0), some (.inl a1), some (.inl a2), some (.inl a3), some (.inl (0 : Int32)), some (.inl v1)]) dX17_number_7 (by decide) rfl ?_
  refine G_aload_n F dX17_number_9 rfl ?_
  obtain ⟨v2, e_v2, h⟩ := bnd h
  obtain ⟨hc_v2, e_v2⟩ := hp_on_of e_v2
  refine G_callUv F (As := []) (st := []) (x := ⟨"MissedTrains$Scribe", "isGood", "()Z"⟩) (owner := "MissedTrains$Scribe") (metX17_isGoodc X e_v2) hc_v2 rfl (lw_U q818 q1822 q1823 q791 q125 q792) rfl hdfX17_isGood ⟨by omega, by decide⟩ rfl (Nat.le_of_ble_eq_true rfl) ⟨by omega, by omega⟩ dX17_number_10 ?_
  obtain ⟨p4, hp4, h⟩ := bnd h
  have K4 : ∀ (m3 : Hp), m3 = p4 → G X cx 6 (Qm X cx (some (.inl rv)) m_ nx 0 0) (0) (0) m3 (nx) [some (.inr a0), some (.inl a1), some (.inl a2), some (.inl a3), some (.inl (0 : Int32)), some (.inl v1)] [] 34 := by
    intro m3 hq
    subst hq
    try dsimp only at h
    obtain ⟨r5, hr5, h⟩ := bnd h
    have KE5 : ∀ (v19 : Int32) (m20 : Hp), (v19, m20) = r5 → G X cx 6 (Qm X cx (some (.inl rv)) m_ nx 0 0) (0) (0) m20 (nx) [some (.inr a0), none, some (.inl a2), some (.inl a3), some (.inl v19), some (.inl v1)] [] 100 := by
      intro v19 m20 hq
      subst hq
      try dsimp only at h
      refine G_aload_n F dX17_number_100 rfl ?_
      obtain ⟨v21, e_v21, h⟩ := bnd h
      obtain ⟨hc_v21, e_v21⟩ := hp_on_of e_v21
      refine G_callUv F (As := []) (st := []) (x := ⟨"MissedTrains$Scribe", "isGood", "()Z"⟩) (owner := "MissedTrains$Scribe") (metX17_isGoodc X e_v21) hc_v21 rfl (lw_U q818 q1822 q1823 q791 q125 q792) rfl hdfX17_isGood ⟨by omega, by decide⟩ rfl (Nat.le_of_ble_eq_true rfl) ⟨by omega, by omega⟩ dX17_number_101 ?_
      refine G_if_eq F (tgt := 124) dX17_number_104 (by decide) (fun c22 => ?_) (fun c22 => ?_)
      · have h := itt c22 h
        refine G_iload F dX17_number_124 rfl ?_
        cases h
        exact G_iret F rfl (Nat.le_refl _) (Nat.le_refl _) rfl dX17_number_126
      · have h := itf c22 h
        refine G_iload F dX17_number_107 rfl ?_
        refine G_iload_n F dX17_number_109 rfl ?_
        refine G_iload_n F dX17_number_110 rfl ?_
        obtain ⟨v23, e_v23, h⟩ := bnd h
        refine G_callSNv F (As := [.inl v19, .inl a2, .inl a3]) (st := []) (metX0_within X e_v23) q424 q102 q821 q423 hdfX0_within ⟨by omega, by decide⟩ rfl (Nat.le_of_ble_eq_true rfl) ⟨by omega, by omega⟩ dX17_number_111 ?_
        refine G_if_ne F (tgt := 124) dX17_number_114 (by decide) (fun c24 => ?_) (fun c24 => ?_)
        · have h := itf c24 h
          refine G_iload F dX17_number_124 rfl ?_
          cases h
          exact G_iret F rfl (Nat.le_refl _) (Nat.le_refl _) rfl dX17_number_126
        · have h := itt c24 h
          refine G_aload_n F dX17_number_117 rfl ?_
          refine G_iconst F (v := (3 : Int32)) dX17_number_118 (by decide) ?_
          refine G_iload F dX17_number_119 rfl ?_
          obtain ⟨m25, e_m25, h⟩ := bnd h
          obtain ⟨hc_m25, e_m25⟩ := hp_on_of e_m25
          refine G_callU0 F (As := [.inl (3 : Int32), .inl v1]) (st := []) (x := ⟨"MissedTrains$Scribe", "bad", "(II)V"⟩) (owner := "MissedTrains$Scribe") (metX17_badc X e_m25) hc_m25 rfl (lw_U q820 q1828 q1829 q785 q125 q786) rfl hdfX17_bad ⟨by omega, by decide⟩ rfl (Nat.le_of_ble_eq_true rfl) ⟨by omega, by omega⟩ dX17_number_121 ?_
          refine G_iload F dX17_number_124 rfl ?_
          cases h
          exact G_iret F rfl (Nat.le_refl _) (Nat.le_refl _) rfl dX17_number_126
    have KB5 : ∀ s o5, fX17_number_L34 14 a0 a1 a2 a3 v1 s = some o5 → (∀ s', o5 = Sum.inl s' → (fun (s : (Int32 × Hp)) => match s with | (s4_5, m5) => G X cx 6 (Qm X cx (some (.inl rv)) m_ nx 0 0) (0) (0) m5 (nx) [some (.inr a0), some (.inl a1), some (.inl a2), some (.inl a3), some (.inl s4_5), some (.inl v1)] [] 34) s') → (∀ q, o5 = Sum.inr q → q = r5) → (fun (s : (Int32 × Hp)) => match s with | (s4_5, m5) => G X cx 6 (Qm X cx (some (.inl rv)) m_ nx 0 0) (0) (0) m5 (nx) [some (.inr a0), some (.inl a1), some (.inl a2), some (.inl a3), some (.inl s4_5), some (.inl v1)] [] 34) s := by
      intro s o5 h hP5 hE5
      obtain ⟨s4_5, m5⟩ := s
      try dsimp only at hP5 hE5 ⊢
      refine G_aload_n F dX17_number_34 rfl ?_
      obtain ⟨v6, e_v6, h⟩ := bnd h
      obtain ⟨hc_v6, e_v6⟩ := hp_on_of e_v6
      refine G_callUv F (As := []) (st := []) (x := ⟨"MissedTrains$Scribe", "isGood", "()Z"⟩) (owner := "MissedTrains$Scribe") (metX17_isGoodc X e_v6) hc_v6 rfl (lw_U q818 q1822 q1823 q791 q125 q792) rfl hdfX17_isGood ⟨by omega, by decide⟩ rfl (Nat.le_of_ble_eq_true rfl) ⟨by omega, by omega⟩ dX17_number_35 ?_
      refine G_if_eq F (tgt := 100) dX17_number_38 (by decide) (fun c7 => ?_) (fun c7 => ?_)
      · have h := itt c7 h
        cases h
        exact G_sub F (L2 := [some (.inr a0), none, some (.inl a2), some (.inl a3), some (.inl s4_5), some (.inl v1)]) ⟨rfl, ⟨rfl, ⟨rfl, ⟨rfl, ⟨rfl, trivial⟩⟩⟩⟩⟩ (KE5 _ _ (hE5 _ rfl))
      · have h := itf c7 h
        refine G_aload_n F dX17_number_41 rfl ?_
        refine G_bipush F (v := (48 : Int32)) dX17_number_42 (by decide) ?_
        refine G_bipush F (v := (57 : Int32)) dX17_number_44 (by decide) ?_
        obtain ⟨v8, e_v8, h⟩ := bnd h
        obtain ⟨hc_v8, e_v8⟩ := hp_on_of e_v8
        refine G_callUv F (As := [.inl (48 : Int32), .inl (57 : Int32)]) (st := []) (x := ⟨"MissedTrains$Scribe", "sees", "(II)Z"⟩) (owner := "MissedTrains$Scribe") (metX17_seesc X e_v8) hc_v8 rfl (lw_U q819 q1825 q1826 q773 q125 q774) rfl hdfX17_sees ⟨by omega, by decide⟩ rfl (Nat.le_of_ble_eq_true rfl) ⟨by omega, by omega⟩ dX17_number_46 ?_
        refine G_if_eq F (tgt := 100) dX17_number_49 (by decide) (fun c9 => ?_) (fun c9 => ?_)
        · have h := itt c9 h
          cases h
          exact G_sub F (L2 := [some (.inr a0), none, some (.inl a2), some (.inl a3), some (.inl s4_5), some (.inl v1)]) ⟨rfl, ⟨rfl, ⟨rfl, ⟨rfl, ⟨rfl, trivial⟩⟩⟩⟩⟩ (KE5 _ _ (hE5 _ rfl))
        · have h := itf c9 h
          refine G_aload_n F dX17_number_52 rfl ?_
          obtain ⟨v10, e_v10, h⟩ := bnd h
          refine G_getI F okX18 (f := 1) (by decide) q722 rfl dX17_number_53 e_v10 ?_
          refine G_iload F dX17_number_56 rfl ?_
          refine G_iload_n F dX17_number_58 rfl ?_
          refine G_iadd F dX17_number_59 ?_
          obtain ⟨p12, hp12, h⟩ := bnd h
          have K12 : ∀ (m11 : Hp), m11 = p12 → G X cx 6 (Qm X cx (some (.inl rv)) m_ nx 0 0) (0) (0) m11 (nx) [some (.inr a0), some (.inl a1), some (.inl a2), some (.inl a3), some (.inl s4_5), some (.inl v1)] [] 72 := by
            intro m11 hq
            subst hq
            try dsimp only at h
            refine G_bipush F (v := (10 : Int32)) dX17_number_72 (by decide) ?_
            refine G_iload F dX17_number_74 rfl ?_
            refine G_imul F dX17_number_76 ?_
            refine G_aload_n F dX17_number_77 rfl ?_
            obtain ⟨v13, e_v13, h⟩ := bnd h
            obtain ⟨hc_v13, e_v13⟩ := hp_on_of e_v13
            refine G_callUv F (As := []) (st := [.inl ((10 : Int32) * s4_5)]) (x := ⟨"MissedTrains$Scribe", "here", "()I"⟩) (owner := "MissedTrains$Scribe") (metX17_herec X e_v13) hc_v13 rfl (lw_U q775 q777 q778 q776 q125 q780) rfl hdfX17_here ⟨by omega, by decide⟩ rfl (Nat.le_of_ble_eq_true rfl) ⟨by omega, by omega⟩ dX17_number_78 ?_
            refine G_iadd F dX17_number_81 ?_
            refine G_bipush F (v := (48 : Int32)) dX17_number_82 (by decide) ?_
            refine G_isub F dX17_number_84 ?_
            refine G_istore F (L2 := [some (.inr a0), some (.inl a1), some (.inl a2), some (.inl a3), some (.inl ((((10 : Int32) * s4_5) + v13) - (48 : Int32))), some (.inl v1)]) dX17_number_85 (by decide) rfl ?_
            refine G_aload_n F dX17_number_87 rfl ?_
            refine G_dup F dX17_number_88 ?_
            obtain ⟨v14, e_v14, h⟩ := bnd h
            refine G_getI F okX18 (f := 1) (by decide) q722 rfl dX17_number_89 e_v14 ?_
            refine G_iconst F (v := (1 : Int32)) dX17_number_92 (by decide) ?_
            refine G_iadd F dX17_number_93 ?_
            obtain ⟨m15, e_m15, h⟩ := bnd h
            refine G_putV F okX18 (f := 1) (by decide) q722 rfl rfl dX17_number_94 (vfit_int _) e_m15 ?_
            refine G_goto F (tgt := 34) dX17_number_97 (by decide) ?_
            cases h
            exact G_sub F (L2 := [some (.inr a0), some (.inl a1), some (.inl a2), some (.inl a3), some (.inl ((((10 : Int32) * s4_5) + v13) - (48 : Int32))), some (.inl v1)]) ⟨rfl, ⟨rfl, ⟨rfl, ⟨rfl, ⟨rfl, ⟨rfl, trivial⟩⟩⟩⟩⟩⟩ (hP5 _ rfl)
          have h := hp12
          clear hp12
          refine G_icmp_ne F (tgt := 72) dX17_number_60 (by decide) (fun c16 => ?_) (fun c16 => ?_)
          · have h := itf c16 h
            have hq_ := Option.some.inj h
            exact G_sub F (L2 := [some (.inr a0), some (.inl a1), some (.inl a2), some (.inl a3), some (.inl s4_5), some (.inl v1)]) ⟨rfl, ⟨rfl, ⟨rfl, ⟨rfl, ⟨rfl, ⟨rfl, trivial⟩⟩⟩⟩⟩⟩ (K12 _ hq_)
          · have h := itt c16 h
            refine G_aload_n F dX17_number_63 rfl ?_
            refine G_iconst F (v := (2 : Int32)) dX17_number_64 (by decide) ?_
            refine G_aload_n F dX17_number_65 rfl ?_
            obtain ⟨v17, e_v17, h⟩ := bnd h
            refine G_getI F okX18 (f := 1) (by decide) q722 rfl dX17_number_66 e_v17 ?_
            obtain ⟨m18, e_m18, h⟩ := bnd h
            obtain ⟨hc_m18, e_m18⟩ := hp_on_of e_m18
            refine G_callU0 F (As := [.inl (2 : Int32), .inl v17]) (st := []) (x := ⟨"MissedTrains$Scribe", "bad", "(II)V"⟩) (owner := "MissedTrains$Scribe") (metX17_badc X e_m18) hc_m18 rfl (lw_U q820 q1828 q1829 q785 q125 q786) rfl hdfX17_bad ⟨by omega, by decide⟩ rfl (Nat.le_of_ble_eq_true rfl) ⟨by omega, by omega⟩ dX17_number_69 ?_
            have hq_ := Option.some.inj h
            exact G_sub F (L2 := [some (.inr a0), some (.inl a1), some (.inl a2), some (.inl a3), some (.inl s4_5), some (.inl v1)]) ⟨rfl, ⟨rfl, ⟨rfl, ⟨rfl, ⟨rfl, ⟨rfl, trivial⟩⟩⟩⟩⟩⟩ (K12 _ hq_)
    have hI := iter_ok (fun (s : (Int32 × Hp)) => match s with | (s4_5, m5) => G X cx 6 (Qm X cx (some (.inl rv)) m_ nx 0 0) (0) (0) m5 (nx) [some (.inr a0), some (.inl a1), some (.inl a2), some (.inl a3), some (.inl s4_5), some (.inl v1)] [] 34) (fun q => q = r5) KB5 _ _ _ hr5 rfl
    exact G_sub F (L2 := [some (.inr a0), some (.inl a1), some (.inl a2), some (.inl a3), some (.inl (0 : Int32)), some (.inl v1)]) ⟨rfl, ⟨rfl, ⟨rfl, ⟨rfl, ⟨rfl, ⟨rfl, trivial⟩⟩⟩⟩⟩⟩ hI
  have h := hp4
  clear hp4
  refine G_if_eq F (tgt := 34) dX17_number_13 (by decide) (fun c26 => ?_) (fun c26 => ?_)
  · have h := itt c26 h
    have hq_ := Option.some.inj h
    exact G_sub F (L2 := [some (.inr a0), some (.inl a1), some (.inl a2), some (.inl a3), some (.inl (0 : Int32)), some (.inl v1)]) ⟨rfl, ⟨rfl, ⟨rfl, ⟨rfl, ⟨rfl, ⟨rfl, trivial⟩⟩⟩⟩⟩⟩ (K4 _ hq_)
  · have h := itf c26 h
    refine G_aload_n F dX17_number_16 rfl ?_
    refine G_bipush F (v := (48 : Int32)) dX17_number_17 (by decide) ?_
    refine G_bipush F (v := (57 : Int32)) dX17_number_19 (by decide) ?_
    obtain ⟨v27, e_v27, h⟩ := bnd h
    obtain ⟨hc_v27, e_v27⟩ := hp_on_of e_v27
    refine G_callUv F (As := [.inl (48 : Int32), .inl (57 : Int32)]) (st := []) (x := ⟨"MissedTrains$Scribe", "sees", "(II)Z"⟩) (owner := "MissedTrains$Scribe") (metX17_seesc X e_v27) hc_v27 rfl (lw_U q819 q1825 q1826 q773 q125 q774) rfl hdfX17_sees ⟨by omega, by decide⟩ rfl (Nat.le_of_ble_eq_true rfl) ⟨by omega, by omega⟩ dX17_number_21 ?_
    refine G_if_ne F (tgt := 34) dX17_number_24 (by decide) (fun c28 => ?_) (fun c28 => ?_)
    · have h := itf c28 h
      have hq_ := Option.some.inj h
      exact G_sub F (L2 := [some (.inr a0), some (.inl a1), some (.inl a2), some (.inl a3), some (.inl (0 : Int32)), some (.inl v1)]) ⟨rfl, ⟨rfl, ⟨rfl, ⟨rfl, ⟨rfl, ⟨rfl, trivial⟩⟩⟩⟩⟩⟩ (K4 _ hq_)
    · have h := itt c28 h
      refine G_aload_n F dX17_number_27 rfl ?_
      refine G_iconst F (v := (1 : Int32)) dX17_number_28 (by decide) ?_
      refine G_iload F dX17_number_29 rfl ?_
      obtain ⟨m29, e_m29, h⟩ := bnd h
      obtain ⟨hc_m29, e_m29⟩ := hp_on_of e_m29
      refine G_callU0 F (As := [.inl (1 : Int32), .inl v1]) (st := []) (x := ⟨"MissedTrains$Scribe", "bad", "(II)V"⟩) (owner := "MissedTrains$Scribe") (metX17_badc X e_m29) hc_m29 rfl (lw_U q820 q1828 q1829 q785 q125 q786) rfl hdfX17_bad ⟨by omega, by decide⟩ rfl (Nat.le_of_ble_eq_true rfl) ⟨by omega, by omega⟩ dX17_number_31 ?_
      have hq_ := Option.some.inj h
      exact G_sub F (L2 := [some (.inr a0), some (.inl a1), some (.inl a2), some (.inl a3), some (.inl (0 : Int32)), some (.inl v1)]) ⟨rfl, ⟨rfl, ⟨rfl, ⟨rfl, ⟨rfl, ⟨rfl, trivial⟩⟩⟩⟩⟩⟩ (K4 _ hq_)

theorem metX17_numberp (X : Gx) {m : Hp} {nx : Nat} {a0 : Option Nat} {a1 : Int32} {a2 : Int32} {a3 : Int32} {rv : Int32} {m_ : Hp} (h : fX17_number 15 m a0 a1 a2 a3 = some (rv, m_)) : Con X (3) yX17_number cX17_number 6 ((Option.some FieldType.int)) [.inr a0, .inl a1, .inl a2, .inl a3] m nx (some (.inl rv)) m_ 0 0 := by
  refine Con.of (own := RX17) (nm := "number") (L := [some (.inr a0), some (.inl a1), some (.inl a2), some (.inl a3), none, none]) (by decide +kernel) rfl rfl (Nat.le_of_ble_eq_true rfl) (ent_of 2 rfl) ?_
  intro cx F
  refine G_iconst F (v := (0 : Int32)) dX17_number_0 (by decide) ?_
  refine G_istore F (L2 := [some (.inr a0), some (.inl a1), some (.inl a2), some (.inl a3), some (.inl (0 : Int32)), none]) dX17_number_1 (by decide) rfl ?_
  refine G_aload_n F dX17_number_3 rfl ?_
  obtain ⟨v1, e_v1, h⟩ := bnd h
  refine G_getI F okX19 (f := 1) (by decide) q722 rfl dX17_number_4 e_v1 ?_
  refine G_istore F (L2 := [some (.inr a0), some (.inl a1), some (.inl a2), some (.inl a3), some (.inl (0 : Int32)), some (.inl v1)]) dX17_number_7 (by decide) rfl ?_
  refine G_aload_n F dX17_number_9 rfl ?_
  obtain ⟨v2, e_v2, h⟩ := bnd h
  obtain ⟨hc_v2, e_v2⟩ := hp_on_of e_v2
  refine G_callUv F (As := []) (st := []) (x := ⟨"MissedTrains$Scribe", "isGood", "()Z"⟩) (owner := "MissedTrains$Scribe") (metX17_isGoodp X e_v2) hc_v2 rfl (lw_U q818 q1822 q1824 q791 q125 q792) rfl hdfX17_isGood ⟨by omega, by decide⟩ rfl (Nat.le_of_ble_eq_true rfl) ⟨by omega, by omega⟩ dX17_number_10 ?_
  obtain ⟨p4, hp4, h⟩ := bnd h
  have K4 : ∀ (m3 : Hp), m3 = p4 → G X cx 6 (Qm X cx (some (.inl rv)) m_ nx 0 0) (0) (0) m3 (nx) [some (.inr a0), some (.inl a1), some (.inl a2), some (.inl a3), some (.inl (0 : Int32)), some (.inl v1)] [] 34 := by
    intro m3 hq
    subst hq
    try dsimp only at h
    obtain ⟨r5, hr5, h⟩ := bnd h
    have KE5 : ∀ (v19 : Int32) (m20 : Hp), (v19, m20) = r5 → G X cx 6 (Qm X cx (some (.inl rv)) m_ nx 0 0) (0) (0) m20 (nx) [some (.inr a0), none, some (.inl a2), some (.inl a3), some (.inl v19), some (.inl v1)] [] 100 := by
      intro v19 m20 hq
      subst hq
      try dsimp only at h
      refine G_aload_n F dX17_number_100 rfl ?_
      obtain ⟨v21, e_v21, h⟩ := bnd h
      obtain ⟨hc_v21, e_v21⟩ := hp_on_of e_v21
      refine G_callUv F (As := []) (st := []) (x := ⟨"MissedTrains$Scribe", "isGood", "()Z"⟩) (owner := "MissedTrains$Scribe") (metX17_isGoodp X e_v21) hc_v21 rfl (lw_U q818 q1822 q1824 q791 q125 q792) rfl hdfX17_isGood ⟨by omega, by decide⟩ rfl (Nat.le_of_ble_eq_true rfl) ⟨by omega, by omega⟩ dX17_number_101 ?_
      refine G_if_eq F (tgt := 124) dX17_number_104 (by decide) (fun c22 => ?_) (fun c22 => ?_)
      · have h := itt c22 h
        refine G_iload F dX17_number_124 rfl ?_
        cases h
        exact G_iret F rfl (Nat.le_refl _) (Nat.le_refl _) rfl dX17_number_126
      · have h := itf c22 h
        refine G_iload F dX17_number_107 rfl ?_
        refine G_iload_n F dX17_number_109 rfl ?_
        refine G_iload_n F dX17_number_110 rfl ?_
        obtain ⟨v23, e_v23, h⟩ := bnd h
        refine G_callSNv F (As := [.inl v19, .inl a2, .inl a3]) (st := []) (metX0_within X e_v23) q424 q102 q821 q423 hdfX0_within ⟨by omega, by decide⟩ rfl (Nat.le_of_ble_eq_true rfl) ⟨by omega, by omega⟩ dX17_number_111 ?_
        refine G_if_ne F (tgt := 124) dX17_number_114 (by decide) (fun c24 => ?_) (fun c24 => ?_)
        · have h := itf c24 h
          refine G_iload F dX17_number_124 rfl ?_
          cases h
          exact G_iret F rfl (Nat.le_refl _) (Nat.le_refl _) rfl dX17_number_126
        · have h := itt c24 h
          refine G_aload_n F dX17_number_117 rfl ?_
          refine G_iconst F (v := (3 : Int32)) dX17_number_118 (by decide) ?_
          refine G_iload F dX17_number_119 rfl ?_
          obtain ⟨m25, e_m25, h⟩ := bnd h
          obtain ⟨hc_m25, e_m25⟩ := hp_on_of e_m25
          refine G_callU0 F (As := [.inl (3 : Int32), .inl v1]) (st := []) (x := ⟨"MissedTrains$Scribe", "bad", "(II)V"⟩) (owner := "MissedTrains$Scribe") (metX17_badp X e_m25) hc_m25 rfl (lw_U q820 q1828 q1830 q785 q125 q786) rfl hdfX17_bad ⟨by omega, by decide⟩ rfl (Nat.le_of_ble_eq_true rfl) ⟨by omega, by omega⟩ dX17_number_121 ?_
          refine G_iload F dX17_number_124 rfl ?_
          cases h
          exact G_iret F rfl (Nat.le_refl _) (Nat.le_refl _) rfl dX17_number_126
    have KB5 : ∀ s o5, fX17_number_L34 15 a0 a1 a2 a3 v1 s = some o5 → (∀ s', o5 = Sum.inl s' → (fun (s : (Int32 × Hp)) => match s with | (s4_5, m5) => G X cx 6 (Qm X cx (some (.inl rv)) m_ nx 0 0) (0) (0) m5 (nx) [some (.inr a0), some (.inl a1), some (.inl a2), some (.inl a3), some (.inl s4_5), some (.inl v1)] [] 34) s') → (∀ q, o5 = Sum.inr q → q = r5) → (fun (s : (Int32 × Hp)) => match s with | (s4_5, m5) => G X cx 6 (Qm X cx (some (.inl rv)) m_ nx 0 0) (0) (0) m5 (nx) [some (.inr a0), some (.inl a1), some (.inl a2), some (.inl a3), some (.inl s4_5), some (.inl v1)] [] 34) s := by
      intro s o5 h hP5 hE5
      obtain ⟨s4_5, m5⟩ := s
      try dsimp only at hP5 hE5 ⊢
      refine G_aload_n F dX17_number_34 rfl ?_
      obtain ⟨v6, e_v6, h⟩ := bnd h
      obtain ⟨hc_v6, e_v6⟩ := hp_on_of e_v6
      refine G_callUv F (As := []) (st := []) (x := ⟨"MissedTrains$Scribe", "isGood", "()Z"⟩) (owner := "MissedTrains$Scribe") (metX17_isGoodp X e_v6) hc_v6 rfl (lw_U q818 q1822 q1824 q791 q125 q792) rfl hdfX17_isGood ⟨by omega, by decide⟩ rfl (Nat.le_of_ble_eq_true rfl) ⟨by omega, by omega⟩ dX17_number_35 ?_
      refine G_if_eq F (tgt := 100) dX17_number_38 (by decide) (fun c7 => ?_) (fun c7 => ?_)
      · have h := itt c7 h
        cases h
        exact G_sub F (L2 := [some (.inr a0), none, some (.inl a2), some (.inl a3), some (.inl s4_5), some (.inl v1)]) ⟨rfl, ⟨rfl, ⟨rfl, ⟨rfl, ⟨rfl, trivial⟩⟩⟩⟩⟩ (KE5 _ _ (hE5 _ rfl))
      · have h := itf c7 h
        refine G_aload_n F dX17_number_41 rfl ?_
        refine G_bipush F (v := (48 : Int32)) dX17_number_42 (by decide) ?_
        refine G_bipush F (v := (57 : Int32)) dX17_number_44 (by decide) ?_
        obtain ⟨v8, e_v8, h⟩ := bnd h
        obtain ⟨hc_v8, e_v8⟩ := hp_on_of e_v8
        refine G_callUv F (As := [.inl (48 : Int32), .inl (57 : Int32)]) (st := []) (x := ⟨"MissedTrains$Scribe", "sees", "(II)Z"⟩) (owner := "MissedTrains$Scribe") (metX17_seesp X e_v8) hc_v8 rfl (lw_U q819 q1825 q1827 q773 q125 q774) rfl hdfX17_sees ⟨by omega, by decide⟩ rfl (Nat.le_of_ble_eq_true rfl) ⟨by omega, by omega⟩ dX17_number_46 ?_
        refine G_if_eq F (tgt := 100) dX17_number_49 (by decide) (fun c9 => ?_) (fun c9 => ?_)
        · have h := itt c9 h
          cases h
          exact G_sub F (L2 := [some (.inr a0), none, some (.inl a2), some (.inl a3), some (.inl s4_5), some (.inl v1)]) ⟨rfl, ⟨rfl, ⟨rfl, ⟨rfl, ⟨rfl, trivial⟩⟩⟩⟩⟩ (KE5 _ _ (hE5 _ rfl))
        · have h := itf c9 h
          refine G_aload_n F dX17_number_52 rfl ?_
          obtain ⟨v10, e_v10, h⟩ := bnd h
          refine G_getI F okX19 (f := 1) (by decide) q722 rfl dX17_number_53 e_v10 ?_
          refine G_iload F dX17_number_56 rfl ?_
          refine G_iload_n F dX17_number_58 rfl ?_
          refine G_iadd F dX17_number_59 ?_
          obtain ⟨p12, hp12, h⟩ := bnd h
          have K12 : ∀ (m11 : Hp), m11 = p12 → G X cx 6 (Qm X cx (some (.inl rv)) m_ nx 0 0) (0) (0) m11 (nx) [some (.inr a0), some (.inl a1), some (.inl a2), some (.inl a3), some (.inl s4_5), some (.inl v1)] [] 72 := by
            intro m11 hq
            subst hq
            try dsimp only at h
            refine G_bipush F (v := (10 : Int32)) dX17_number_72 (by decide) ?_
            refine G_iload F dX17_number_74 rfl ?_
            refine G_imul F dX17_number_76 ?_
            refine G_aload_n F dX17_number_77 rfl ?_
            obtain ⟨v13, e_v13, h⟩ := bnd h
            obtain ⟨hc_v13, e_v13⟩ := hp_on_of e_v13
            refine G_callUv F (As := []) (st := [.inl ((10 : Int32) * s4_5)]) (x := ⟨"MissedTrains$Scribe", "here", "()I"⟩) (owner := "MissedTrains$Scribe") (metX17_herep X e_v13) hc_v13 rfl (lw_U q775 q777 q779 q776 q125 q780) rfl hdfX17_here ⟨by omega, by decide⟩ rfl (Nat.le_of_ble_eq_true rfl) ⟨by omega, by omega⟩ dX17_number_78 ?_
            refine G_iadd F dX17_number_81 ?_
            refine G_bipush F (v := (48 : Int32)) dX17_number_82 (by decide) ?_
            refine G_isub F dX17_number_84 ?_
            refine G_istore F (L2 := [some (.inr a0), some (.inl a1), some (.inl a2), some (.inl a3), some (.inl ((((10 : Int32) * s4_5) + v13) - (48 : Int32))), some (.inl v1)]) dX17_number_85 (by decide) rfl ?_
            refine G_aload_n F dX17_number_87 rfl ?_
            refine G_dup F dX17_number_88 ?_
            obtain ⟨v14, e_v14, h⟩ := bnd h
            refine G_getI F okX19 (f := 1) (by decide) q722 rfl dX17_number_89 e_v14 ?_
            refine G_iconst F (v := (1 : Int32)) dX17_number_92 (by decide) ?_
            refine G_iadd F dX17_number_93 ?_
            obtain ⟨m15, e_m15, h⟩ := bnd h
            refine G_putV F okX19 (f := 1) (by decide) q722 rfl rfl dX17_number_94 (vfit_int _) e_m15 ?_
            refine G_goto F (tgt := 34) dX17_number_97 (by decide) ?_
            cases h
            exact G_sub F (L2 := [some (.inr a0), some (.inl a1), some (.inl a2), some (.inl a3), some (.inl ((((10 : Int32) * s4_5) + v13) - (48 : Int32))), some (.inl v1)]) ⟨rfl, ⟨rfl, ⟨rfl, ⟨rfl, ⟨rfl, ⟨rfl, trivial⟩⟩⟩⟩⟩⟩ (hP5 _ rfl)
          have h := hp12
          clear hp12
          refine G_icmp_ne F (tgt := 72) dX17_number_60 (by decide) (fun c16 => ?_) (fun c16 => ?_)
          · have h := itf c16 h
            have hq_ := Option.some.inj h
            exact G_sub F (L2 := [some (.inr a0), some (.inl a1), some (.inl a2), some (.inl a3), some (.inl s4_5), some (.inl v1)]) ⟨rfl, ⟨rfl, ⟨rfl, ⟨rfl, ⟨rfl, ⟨rfl, trivial⟩⟩⟩⟩⟩⟩ (K12 _ hq_)
          · have h := itt c16 h
            refine G_aload_n F dX17_number_63 rfl ?_
            refine G_iconst F (v := (2 : Int32)) dX17_number_64 (by decide) ?_
            refine G_aload_n F dX17_number_65 rfl ?_
            obtain ⟨v17, e_v17, h⟩ := bnd h
            refine G_getI F okX19 (f := 1) (by decide) q722 rfl dX17_number_66 e_v17 ?_
            obtain ⟨m18, e_m18, h⟩ := bnd h
            obtain ⟨hc_m18, e_m18⟩ := hp_on_of e_m18
            refine G_callU0 F (As := [.inl (2 : Int32), .inl v17]) (st := []) (x := ⟨"MissedTrains$Scribe", "bad", "(II)V"⟩) (owner := "MissedTrains$Scribe") (metX17_badp X e_m18) hc_m18 rfl (lw_U q820 q1828 q1830 q785 q125 q786) rfl hdfX17_bad ⟨by omega, by decide⟩ rfl (Nat.le_of_ble_eq_true rfl) ⟨by omega, by omega⟩ dX17_number_69 ?_
            have hq_ := Option.some.inj h
            exact G_sub F (L2 := [some (.inr a0), some (.inl a1), some (.inl a2), some (.inl a3), some (.inl s4_5), some (.inl v1)]) ⟨rfl, ⟨rfl, ⟨rfl, ⟨rfl, ⟨rfl, ⟨rfl, trivial⟩⟩⟩⟩⟩⟩ (K12 _ hq_)
    have hI := iter_ok (fun (s : (Int32 × Hp)) => match s with | (s4_5, m5) => G X cx 6 (Qm X cx (some (.inl rv)) m_ nx 0 0) (0) (0) m5 (nx) [some (.inr a0), some (.inl a1), some (.inl a2), some (.inl a3), some (.inl s4_5), some (.inl v1)] [] 34) (fun q => q = r5) KB5 _ _ _ hr5 rfl
    exact G_sub F (L2 := [some (.inr a0), some (.inl a1), some (.inl a2), some (.inl a3), some (.inl (0 : Int32)), some (.inl v1)]) ⟨rfl, ⟨rfl, ⟨rfl, ⟨rfl, ⟨rfl, ⟨rfl, trivial⟩⟩⟩⟩⟩⟩ hI
  have h := hp4
  clear hp4
  refine G_if_eq F (tgt := 34) dX17_number_13 (by decide) (fun c26 => ?_) (fun c26 => ?_)
  · have h := itt c26 h
    have hq_ := Option.some.inj h
    exact G_sub F (L2 := [some (.inr a0), some (.inl a1), some (.inl a2), some (.inl a3), some (.inl (0 : Int32)), some (.inl v1)]) ⟨rfl, ⟨rfl, ⟨rfl, ⟨rfl, ⟨rfl, ⟨rfl, trivial⟩⟩⟩⟩⟩⟩ (K4 _ hq_)
  · have h := itf c26 h
    refine G_aload_n F dX17_number_16 rfl ?_
    refine G_bipush F (v := (48 : Int32)) dX17_number_17 (by decide) ?_
    refine G_bipush F (v := (57 : Int32)) dX17_number_19 (by decide) ?_
    obtain ⟨v27, e_v27, h⟩ := bnd h
    obtain ⟨hc_v27, e_v27⟩ := hp_on_of e_v27
    refine G_callUv F (As := [.inl (48 : Int32), .inl (57 : Int32)]) (st := []) (x := ⟨"MissedTrains$Scribe", "sees", "(II)Z"⟩) (owner := "MissedTrains$Scribe") (metX17_seesp X e_v27) hc_v27 rfl (lw_U q819 q1825 q1827 q773 q125 q774) rfl hdfX17_sees ⟨by omega, by decide⟩ rfl (Nat.le_of_ble_eq_true rfl) ⟨by omega, by omega⟩ dX17_number_21 ?_
    refine G_if_ne F (tgt := 34) dX17_number_24 (by decide) (fun c28 => ?_) (fun c28 => ?_)
    · have h := itf c28 h
      have hq_ := Option.some.inj h
      exact G_sub F (L2 := [some (.inr a0), some (.inl a1), some (.inl a2), some (.inl a3), some (.inl (0 : Int32)), some (.inl v1)]) ⟨rfl, ⟨rfl, ⟨rfl, ⟨rfl, ⟨rfl, ⟨rfl, trivial⟩⟩⟩⟩⟩⟩ (K4 _ hq_)
    · have h := itt c28 h
      refine G_aload_n F dX17_number_27 rfl ?_
      refine G_iconst F (v := (1 : Int32)) dX17_number_28 (by decide) ?_
      refine G_iload F dX17_number_29 rfl ?_
      obtain ⟨m29, e_m29, h⟩ := bnd h
      obtain ⟨hc_m29, e_m29⟩ := hp_on_of e_m29
      refine G_callU0 F (As := [.inl (1 : Int32), .inl v1]) (st := []) (x := ⟨"MissedTrains$Scribe", "bad", "(II)V"⟩) (owner := "MissedTrains$Scribe") (metX17_badp X e_m29) hc_m29 rfl (lw_U q820 q1828 q1830 q785 q125 q786) rfl hdfX17_bad ⟨by omega, by decide⟩ rfl (Nat.le_of_ble_eq_true rfl) ⟨by omega, by omega⟩ dX17_number_31 ?_
      have hq_ := Option.some.inj h
      exact G_sub F (L2 := [some (.inr a0), some (.inl a1), some (.inl a2), some (.inl a3), some (.inl (0 : Int32)), some (.inl v1)]) ⟨rfl, ⟨rfl, ⟨rfl, ⟨rfl, ⟨rfl, ⟨rfl, trivial⟩⟩⟩⟩⟩⟩ (K4 _ hq_)

theorem metX18_stop (X : Gx) {m : Hp} {nx : Nat} {a0 : Option Nat} {a1 : Option Nat} {m_ : Hp} (h : fX18_stop m a0 a1 = some m_) : Con X (4) yX18_stop cX18_stop 5 ((none : Option FieldType)) [.inr a0, .inr a1] m nx none m_ 0 0 := by
  refine Con.of (own := RX18) (nm := "stop") (L := [some (.inr a0), some (.inr a1), none, none, none]) (by decide +kernel) rfl rfl (Nat.le_of_ble_eq_true rfl) (ent_of 3 rfl) ?_
  intro cx F
  refine G_aload_n F dX18_stop_0 rfl ?_
  obtain ⟨v1, e_v1, h⟩ := bnd h
  obtain ⟨hc_v1, e_v1⟩ := hp_on_of e_v1
  refine G_callUv F (As := []) (st := []) (x := ⟨"MissedTrains$Clerk", "place", "()I"⟩) (owner := "MissedTrains$Scribe") (metX17_placec X e_v1) hc_v1 rfl (lw_U q759 q760 q762 q763 q125 q764) rfl hdfX17_place ⟨by omega, by decide⟩ rfl (Nat.le_of_ble_eq_true rfl) ⟨by omega, by omega⟩ dX18_stop_1 ?_
  refine G_istore_n F (L2 := [some (.inr a0), some (.inr a1), some (.inl v1), none, none]) dX18_stop_4 (by decide) rfl ?_
  refine G_aload_n F dX18_stop_5 rfl ?_
  obtain ⟨v2, e_v2, h⟩ := bnd h
  obtain ⟨hc_v2, e_v2⟩ := hp_on_of e_v2
  refine G_callUv F (As := []) (st := []) (x := ⟨"MissedTrains$Clerk", "here", "()I"⟩) (owner := "MissedTrains$Scribe") (metX17_herec X e_v2) hc_v2 rfl (lw_U q798 q799 q801 q776 q125 q780) rfl hdfX17_here ⟨by omega, by decide⟩ rfl (Nat.le_of_ble_eq_true rfl) ⟨by omega, by omega⟩ dX18_stop_6 ?_
  refine G_bipush F (v := (97 : Int32)) dX18_stop_9 (by decide) ?_
  refine G_isub F dX18_stop_11 ?_
  refine G_istore_n F (L2 := [some (.inr a0), some (.inr a1), some (.inl v1), some (.inl (v2 - (97 : Int32))), none]) dX18_stop_12 (by decide) rfl ?_
  refine G_aload_n F dX18_stop_13 rfl ?_
  obtain ⟨v3, e_v3, h⟩ := bnd h
  obtain ⟨hc_v3, e_v3⟩ := hp_on_of e_v3
  refine G_callVv F (As := []) (st := []) (metX18_seesStation X e_v3) hc_v3 rfl rfl (lw_V q765 q767 qs15 q126 q768) hdfX18_seesStation ⟨by omega, by decide⟩ rfl (Nat.le_of_ble_eq_true rfl) ⟨by omega, by omega⟩ dX18_stop_14 ?_
  obtain ⟨p5, hp5, h⟩ := bnd h
  have K5 : ∀ (m4 : Hp), m4 = p5 → G X cx 5 (Qm X cx none m_ nx 0 0) (0) (0) m4 (nx) [some (.inr a0), some (.inr a1), none, some (.inl (v2 - (97 : Int32))), none] [] 63 := by
    intro m4 hq
    subst hq
    try dsimp only at h
    refine G_aload_n F dX18_stop_63 rfl ?_
    obtain ⟨m6, e_m6, h⟩ := bnd h
    obtain ⟨hc_m6, e_m6⟩ := hp_on_of e_m6
    refine G_callU0 F (As := []) (st := []) (x := ⟨"MissedTrains$Clerk", "goes", "()V"⟩) (owner := "MissedTrains$Scribe") (metX17_goesc X e_m6) hc_m6 rfl (lw_U q806 q807 q809 q810 q125 q811) rfl hdfX17_goes ⟨by omega, by decide⟩ rfl (Nat.le_of_ble_eq_true rfl) ⟨by omega, by omega⟩ dX18_stop_64 ?_
    refine G_aload_n F dX18_stop_67 rfl ?_
    refine G_iconst F (v := (4 : Int32)) dX18_stop_68 (by decide) ?_
    refine G_aload_n F dX18_stop_69 rfl ?_
    obtain ⟨v7, e_v7, h⟩ := bnd h
    refine G_getIN F okX6 (f := 2) (by decide) q304 rfl dX18_stop_70 e_v7 ?_
    obtain ⟨p9, hp9, h⟩ := bnd h
    have K9 : ∀ (v8 : Int32), v8 = p9 → G X cx 5 (Qm X cx none m_ nx 0 0) (0) (0) m6 (nx) [some (.inr a0), some (.inr a1), none, some (.inl (v2 - (97 : Int32))), none] [.inl v8, .inl (4 : Int32), .inr a0] 93 := by
      intro v8 hq
      subst hq
      try dsimp only at h
      refine G_sipush F (v := (1439 : Int32)) dX18_stop_93 (by decide) ?_
      obtain ⟨⟨v10, m11⟩, e_v10, h⟩ := bnd h
      obtain ⟨hc_v10, e_v10⟩ := hp_on_of e_v10
      refine G_callUv F (As := [.inl (4 : Int32), .inl v8, .inl (1439 : Int32)]) (st := []) (x := ⟨"MissedTrains$Clerk", "number", "(III)I"⟩) (owner := "MissedTrains$Scribe") (metX17_numberc X e_v10) hc_v10 rfl (lw_U q812 q813 q815 q816 q125 q817) rfl hdfX17_number ⟨by omega, by decide⟩ rfl (Nat.le_of_ble_eq_true rfl) ⟨by omega, by omega⟩ dX18_stop_96 ?_
      refine G_istore F (L2 := [some (.inr a0), some (.inr a1), none, some (.inl (v2 - (97 : Int32))), some (.inl v10)]) dX18_stop_99 (by decide) rfl ?_
      refine G_aload_n F dX18_stop_101 rfl ?_
      obtain ⟨v12, e_v12, h⟩ := bnd h
      obtain ⟨hc_v12, e_v12⟩ := hp_on_of e_v12
      refine G_callUv F (As := []) (st := []) (x := ⟨"MissedTrains$Clerk", "isGood", "()Z"⟩) (owner := "MissedTrains$Scribe") (metX17_isGoodc X e_v12) hc_v12 rfl (lw_U q787 q788 q790 q791 q125 q792) rfl hdfX17_isGood ⟨by omega, by decide⟩ rfl (Nat.le_of_ble_eq_true rfl) ⟨by omega, by omega⟩ dX18_stop_102 ?_
      refine G_if_ne F (tgt := 109) dX18_stop_105 (by decide) (fun c13 => ?_) (fun c13 => ?_)
      · have h := itf c13 h
        refine G_aload_n F dX18_stop_109 rfl ?_
        obtain ⟨v14, e_v14, h⟩ := bnd h
        refine G_getRN F okX6 (f := 0) (by decide) q296 rfl dX18_stop_110 e_v14 ?_
        refine G_aload_n F dX18_stop_113 rfl ?_
        obtain ⟨v15, e_v15, h⟩ := bnd h
        refine G_getIN F okX6 (f := 2) (by decide) q304 rfl dX18_stop_114 e_v15 ?_
        refine G_iload_n F dX18_stop_117 rfl ?_
        obtain ⟨m16, e_m16, h⟩ := bnd h
        refine G_iast F dX18_stop_118 e_m16 ?_
        refine G_aload_n F dX18_stop_119 rfl ?_
        obtain ⟨v17, e_v17, h⟩ := bnd h
        refine G_getRN F okX6 (f := 1) (by decide) q300 rfl dX18_stop_120 e_v17 ?_
        refine G_aload_n F dX18_stop_123 rfl ?_
        obtain ⟨v18, e_v18, h⟩ := bnd h
        refine G_getIN F okX6 (f := 2) (by decide) q304 rfl dX18_stop_124 e_v18 ?_
        refine G_iload F dX18_stop_127 rfl ?_
        obtain ⟨m19, e_m19, h⟩ := bnd h
        refine G_iast F dX18_stop_129 e_m19 ?_
        refine G_aload_n F dX18_stop_130 rfl ?_
        refine G_dup F dX18_stop_131 ?_
        obtain ⟨v20, e_v20, h⟩ := bnd h
        refine G_getIN F okX6 (f := 2) (by decide) q304 rfl dX18_stop_132 e_v20 ?_
        refine G_iconst F (v := (1 : Int32)) dX18_stop_135 (by decide) ?_
        refine G_iadd F dX18_stop_136 ?_
        obtain ⟨m21, e_m21, h⟩ := bnd h
        refine G_putVN F okX6 (f := 2) (by decide) q304 rfl rfl dX18_stop_137 (vfit_int _) e_m21 ?_
        cases h
        exact G_vret F rfl (Nat.le_refl _) (Nat.le_refl _) rfl dX18_stop_140
      · have h := itt c13 h
        cases h
        exact G_vret F rfl (Nat.le_refl _) (Nat.le_refl _) rfl dX18_stop_108
    have h := hp9
    clear hp9
    refine G_if_ne F (tgt := 80) dX18_stop_73 (by decide) (fun c22 => ?_) (fun c22 => ?_)
    · have h := itf c22 h
      refine G_aload_n F dX18_stop_80 rfl ?_
      obtain ⟨v23, e_v23, h⟩ := bnd h
      refine G_getRN F okX6 (f := 1) (by decide) q300 rfl dX18_stop_81 e_v23 ?_
      refine G_aload_n F dX18_stop_84 rfl ?_
      obtain ⟨v24, e_v24, h⟩ := bnd h
      refine G_getIN F okX6 (f := 2) (by decide) q304 rfl dX18_stop_85 e_v24 ?_
      refine G_iconst F (v := (1 : Int32)) dX18_stop_88 (by decide) ?_
      refine G_isub F dX18_stop_89 ?_
      obtain ⟨v25, e_v25, h⟩ := bnd h
      refine G_iald F dX18_stop_90 e_v25 ?_
      refine G_iconst F (v := (1 : Int32)) dX18_stop_91 (by decide) ?_
      refine G_iadd F dX18_stop_92 ?_
      have hq_ := Option.some.inj h
      exact G_sub F (L2 := [some (.inr a0), some (.inr a1), none, some (.inl (v2 - (97 : Int32))), none]) ⟨rfl, ⟨rfl, ⟨rfl, trivial⟩⟩⟩ (K9 _ hq_)
    · have h := itt c22 h
      refine G_iconst F (v := (0 : Int32)) dX18_stop_76 (by decide) ?_
      refine G_goto F (tgt := 93) dX18_stop_77 (by decide) ?_
      have hq_ := Option.some.inj h
      exact G_sub F (L2 := [some (.inr a0), some (.inr a1), none, some (.inl (v2 - (97 : Int32))), none]) ⟨rfl, ⟨rfl, ⟨rfl, trivial⟩⟩⟩ (K9 _ hq_)
  have h := hp5
  clear hp5
  refine G_if_ne F (tgt := 29) dX18_stop_17 (by decide) (fun c26 => ?_) (fun c26 => ?_)
  · have h := itf c26 h
    refine G_aload_n F dX18_stop_29 rfl ?_
    refine G_iload_n F dX18_stop_30 rfl ?_
    obtain ⟨v27, e_v27, h⟩ := bnd h
    obtain ⟨hc_v27, e_v27⟩ := hp_on_of e_v27
    refine G_callVv F (As := [.inl (v2 - (97 : Int32))]) (st := []) (metX6_stopAt X e_v27) hc_v27 rfl rfl (lw_V q802 q803 q804 q108 q805) hdfX6_stopAt ⟨by omega, by decide⟩ rfl (Nat.le_of_ble_eq_true rfl) ⟨by omega, by omega⟩ dX18_stop_31 ?_
    refine G_iconst F (v := (-1 : Int32)) dX18_stop_34 (by decide) ?_
    refine G_icmp_eq F (tgt := 48) dX18_stop_35 (by decide) (fun c28 => ?_) (fun c28 => ?_)
    · have h := itt c28 h
      refine G_aload_n F dX18_stop_48 rfl ?_
      obtain ⟨v29, e_v29, h⟩ := bnd h
      refine G_getIN F okX6 (f := 2) (by decide) q304 rfl dX18_stop_49 e_v29 ?_
      refine G_bipush F (v := (8 : Int32)) dX18_stop_52 (by decide) ?_
      refine G_icmp_ne F (tgt := 63) dX18_stop_54 (by decide) (fun c30 => ?_) (fun c30 => ?_)
      · have h := itf c30 h
        have hq_ := Option.some.inj h
        exact G_sub F (L2 := [some (.inr a0), some (.inr a1), none, some (.inl (v2 - (97 : Int32))), none]) ⟨rfl, ⟨rfl, ⟨rfl, trivial⟩⟩⟩ (K5 _ hq_)
      · have h := itt c30 h
        refine G_aload_n F dX18_stop_57 rfl ?_
        refine G_iconst F (v := (5 : Int32)) dX18_stop_58 (by decide) ?_
        refine G_iload_n F dX18_stop_59 rfl ?_
        obtain ⟨m31, e_m31, h⟩ := bnd h
        obtain ⟨hc_m31, e_m31⟩ := hp_on_of e_m31
        refine G_callU0 F (As := [.inl (5 : Int32), .inl v1]) (st := []) (x := ⟨"MissedTrains$Clerk", "bad", "(II)V"⟩) (owner := "MissedTrains$Scribe") (metX17_badc X e_m31) hc_m31 rfl (lw_U q781 q782 q784 q785 q125 q786) rfl hdfX17_bad ⟨by omega, by decide⟩ rfl (Nat.le_of_ble_eq_true rfl) ⟨by omega, by omega⟩ dX18_stop_60 ?_
        have hq_ := Option.some.inj h
        exact G_sub F (L2 := [some (.inr a0), some (.inr a1), none, some (.inl (v2 - (97 : Int32))), none]) ⟨rfl, ⟨rfl, ⟨rfl, trivial⟩⟩⟩ (K5 _ hq_)
    · have h := itf c28 h
      refine G_aload_n F dX18_stop_38 rfl ?_
      refine G_bipush F (v := (6 : Int32)) dX18_stop_39 (by decide) ?_
      refine G_iload_n F dX18_stop_41 rfl ?_
      obtain ⟨m32, e_m32, h⟩ := bnd h
      obtain ⟨hc_m32, e_m32⟩ := hp_on_of e_m32
      refine G_callU0 F (As := [.inl (6 : Int32), .inl v1]) (st := []) (x := ⟨"MissedTrains$Clerk", "bad", "(II)V"⟩) (owner := "MissedTrains$Scribe") (metX17_badc X e_m32) hc_m32 rfl (lw_U q781 q782 q784 q785 q125 q786) rfl hdfX17_bad ⟨by omega, by decide⟩ rfl (Nat.le_of_ble_eq_true rfl) ⟨by omega, by omega⟩ dX18_stop_42 ?_
      refine G_goto F (tgt := 63) dX18_stop_45 (by decide) ?_
      have hq_ := Option.some.inj h
      exact G_sub F (L2 := [some (.inr a0), some (.inr a1), none, some (.inl (v2 - (97 : Int32))), none]) ⟨rfl, ⟨rfl, ⟨rfl, trivial⟩⟩⟩ (K5 _ hq_)
  · have h := itt c26 h
    refine G_aload_n F dX18_stop_20 rfl ?_
    refine G_iconst F (v := (1 : Int32)) dX18_stop_21 (by decide) ?_
    refine G_iload_n F dX18_stop_22 rfl ?_
    obtain ⟨m33, e_m33, h⟩ := bnd h
    obtain ⟨hc_m33, e_m33⟩ := hp_on_of e_m33
    refine G_callU0 F (As := [.inl (1 : Int32), .inl v1]) (st := []) (x := ⟨"MissedTrains$Clerk", "bad", "(II)V"⟩) (owner := "MissedTrains$Scribe") (metX17_badc X e_m33) hc_m33 rfl (lw_U q781 q782 q784 q785 q125 q786) rfl hdfX17_bad ⟨by omega, by decide⟩ rfl (Nat.le_of_ble_eq_true rfl) ⟨by omega, by omega⟩ dX18_stop_23 ?_
    refine G_goto F (tgt := 63) dX18_stop_26 (by decide) ?_
    have hq_ := Option.some.inj h
    exact G_sub F (L2 := [some (.inr a0), some (.inr a1), none, some (.inl (v2 - (97 : Int32))), none]) ⟨rfl, ⟨rfl, ⟨rfl, trivial⟩⟩⟩ (K5 _ hq_)
