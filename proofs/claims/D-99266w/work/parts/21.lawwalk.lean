set_option maxRecDepth 100000
set_option linter.unusedVariables false
def R_law : String := "MissedTrainsLaw"
section XROWS
variable {X : Gx} {cx : Cx} {own nm : String} {cc : ByteArray} {nL : Nat} {ret : Option FieldType} {d MC MS : Nat} {Q : State → Prop} {k n : Nat} {m : Hp} {nx : Nat} {L : List (Option Vl)} {st : List Vl} {pc : Nat}
theorem PH.scr {H : Heap} (hP : PH X m nx H) {b SL : Nat} {xs : Nat → Int32} (hX : va_X b SL xs cx.2.2.2.1 X.2.2.2.2.1) (hbz : b < X.2.2.2.1) : va_X b SL xs cx.2.2.2.1 H := va_X.kept hX (hP.2.2.2 b hbz)
theorem G_xlen (F : Fix X cx own cc nL ret nm d MC MS) {b SL : Nat} {xs : Nat → Int32} (hX : va_X b SL xs cx.2.2.2.1 X.2.2.2.2.1) (hbz : b < X.2.2.2.1) (hdg : decode cc pc = .ok (.arraylength, 1)) (kk : G X cx nL Q k n m nx L (.inl (Int32.ofNat SL) :: st) (pc + 1)) : G X cx nL Q k n m nx L (.inr (some b) :: st) pc := by
  intro H locs ls hP hL hl
  obtain ⟨scr, h1, h2, h3, h4, h5⟩ := hP.scr hX hbz
  exact W.alen (n := Int32.ofNat SL) F.1 F.2.1 h1 h2 (by rw [h4] <;> rfl) rfl rfl hdg (kk H locs ls hP hL hl)
theorem G_xld (F : Fix X cx own cc nL ret nm d MC MS) {b SL : Nat} {xs : Nat → Int32} (hX : va_X b SL xs cx.2.2.2.1 X.2.2.2.2.1) (hbz : b < X.2.2.2.1) {i v : Int32} (hdg : decode cc pc = .ok (.iaload, 1)) (e : sld xs SL i = some v) (kk : G X cx nL Q k n m nx L (.inl v :: st) (pc + 1)) : G X cx nL Q k n m nx L (.inl i :: .inr (some b) :: st) pc := by
  intro H locs ls hP hL hl
  obtain ⟨scr, h1, h2, h3, h4, h5⟩ := hP.scr hX hbz
  unfold sld at e
  split at e
  · rename_i hi
    cases e
    have hin := hp_in_of hi
    have hlt : i.toNatClampNeg < SL := Nat.not_le.mp fun q => hin (Or.inr q)
    exact W.iald (v := .int (xs i.toNatClampNeg)) F.1 F.2.1 h1 h2 h3 (by rw [h4]; exact hin) (h5 _ hlt) rfl rfl hdg (kk H locs ls hP hL hl)
  · cases e
end XROWS
theorem lz01 {m m' : Hp} {a b c d : Nat} (h : some (((0 : Int32), m), a, b) = some (((1 : Int32), m'), c, d)) : False := absurd (congrArg (fun q : Option ((Int32 × Hp) × Nat × Nat) => q.map (fun z => z.1.1)) h) (by simp)
theorem law_walk (X : Gx) {cx : Cx} {nm : String} {d dc ds : Nat} (F : Fix X cx R_law code 4 ret nm d dc ds) (hlev : 500 ≤ d) {b SL : Nat} {xs : Nat → Int32} (hX : va_X b SL xs cx.2.2.2.1 X.2.2.2.2.1) (hbz : b < X.2.2.2.1) {m : Hp} {nx : Nat} {m_ : Hp} (h : fLaw xs SL m nx = some (((1 : Int32), m_), dc, ds)) (hdc : dc ≤ 1200000) (hds : ds ≤ 5502250) {Q : State → Prop} (hQ : ∀ (k n : Nat) (m : Hp) (nx : Nat) (L : List (Option Vl)) (pc : Nat), k ≤ 1200000 → n ≤ 5502250 → decode code pc = .ok (.ireturn, 1) → G X cx 4 Q k n m nx L [.inl 1] pc) : G X cx 4 Q 0 0 m nx [some (.inr (some b)), none, none, none] [] 0 := by
  obtain ⟨m1, e_m1, h⟩ := bnd h
  obtain ⟨D2, C2, h, hD2, hC2⟩ := andA_of h; try dsimp only at hD2 hC2
  refine G_newc F okX0 (fs := dfX0) q128 q129 q102 (by decide) (by omega) (by omega) dL_law_0 e_m1 ?_
  refine G_dup F dL_law_3 ?_
  obtain ⟨⟨m3, d4, c5⟩, e_m3, h⟩ := bnd h
  obtain ⟨D6, C6, h, hD6, hC6⟩ := andA_of h; try dsimp only at hD6 hC6
  refine G_callI0 F (As := []) (st := [.inr (some (nx))]) (metX0_init X e_m3) q132 q102 q130 q131 rfl hdfX0_init ⟨by omega, by decide⟩ rfl (Nat.le_of_ble_eq_true rfl) ⟨by omega, by omega⟩ dL_law_4 ?_
  refine G_astore_n F (L2 := [some (.inr (some b)), some (.inr (some (nx))), none, none]) dL_law_7 (by decide) rfl ?_
  obtain ⟨m7, e_m7, h⟩ := bnd h
  obtain ⟨D8, C8, h, hD8, hC8⟩ := andA_of h; try dsimp only at hD8 hC8
  refine G_newc F okX7 (fs := dfX7) q1218 q1219 q109 (by decide) (by omega) (by omega) dL_law_8 e_m7 ?_
  refine G_dup F dL_law_11 ?_
  obtain ⟨⟨m9, d10, c11⟩, e_m9, h⟩ := bnd h
  obtain ⟨D12, C12, h, hD12, hC12⟩ := andA_of h; try dsimp only at hD12 hC12
  refine G_callI0 F (As := []) (st := [.inr (some (nx + 1 + d4))]) (metX7_init X e_m9) q1222 q109 q1220 q1221 rfl hdfX7_init ⟨by omega, by decide⟩ rfl (Nat.le_of_ble_eq_true rfl) ⟨by omega, by omega⟩ dL_law_12 ?_
  refine G_astore_n F (L2 := [some (.inr (some b)), some (.inr (some (nx))), some (.inr (some (nx + 1 + d4))), none]) dL_law_15 (by decide) rfl ?_
  refine G_iconst F (v := (0 : Int32)) dL_law_16 (by decide) ?_
  refine G_istore_n F (L2 := [some (.inr (some b)), some (.inr (some (nx))), some (.inr (some (nx + 1 + d4))), some (.inl (0 : Int32))]) dL_law_17 (by decide) rfl ?_
  obtain ⟨⟨r13, e13, f13⟩, hr13, h⟩ := bnd h
  obtain ⟨D306, C306, h, hD306, hC306⟩ := andA_of h; try dsimp only at hD306 hC306
  have KE13 : ∀ (m305 : Hp), Sum.inl m305 = r13 → G X cx 4 Q (0 + 1 + d4 + 1 + d10 + e13) (0 + 22 + c5 + 66 + c11 + f13) m305 (nx + 1 + d4 + 1 + d10 + e13) [none, none, none, none] [] 1148 := by
    intro m305 hq
    subst hq
    try dsimp only at h
    refine G_iconst F (v := (1 : Int32)) dL_law_1148 (by decide) ?_
    cases h
    exact hQ _ _ _ _ _ _ (by omega) (by omega) dL_law_1149
  have KR13 : ∀ q, Sum.inr q = r13 → some (q, 0, 0) = some (((1 : Int32), m_), D306, C306) := by
    intro q hq
    subst hq
    exact h
  have KB13 : ∀ s nx13 k13 n13 o13 d13 c13, fLaw_L18 xs SL (some (nx)) (some (nx + 1 + d4)) s nx13 = some (o13, d13, c13) → k13 + d13 ≤ dc → n13 + c13 ≤ ds → (∀ s', o13 = Sum.inl s' → (fun (s : (Int32 × Hp)) nx13 k13 n13 => match s with | (s3_13, m13) => G X cx 4 Q (k13) (n13) m13 (nx13) [some (.inr (some b)), some (.inr (some (nx))), some (.inr (some (nx + 1 + d4))), some (.inl s3_13)] [] 18) s' (nx13 + d13) (k13 + d13) (n13 + c13)) → (∀ q, o13 = Sum.inr q → (fun q a_ b_ c_ => q = r13 ∧ a_ = nx + 1 + d4 + 1 + d10 + e13 ∧ b_ = 0 + 1 + d4 + 1 + d10 + e13 ∧ c_ = 0 + 22 + c5 + 66 + c11 + f13) q (nx13 + d13) (k13 + d13) (n13 + c13)) → (fun (s : (Int32 × Hp)) nx13 k13 n13 => match s with | (s3_13, m13) => G X cx 4 Q (k13) (n13) m13 (nx13) [some (.inr (some b)), some (.inr (some (nx))), some (.inr (some (nx + 1 + d4))), some (.inl s3_13)] [] 18) s nx13 k13 n13 := by
    intro s nx13 k13 n13 o13 d13 c13 h hk13 hn13 hP13 hE13
    obtain ⟨s3_13, m13⟩ := s
    try dsimp only at hP13 hE13 ⊢
    refine G_iload_n F dL_law_18 rfl ?_
    refine G_aload_n F dL_law_19 rfl ?_
    refine G_xlen F hX hbz dL_law_20 ?_
    refine G_bipush F (v := (6 : Int32)) dL_law_21 (by decide) ?_
    refine G_isub F dL_law_23 ?_
    refine G_icmp_gt F (tgt := 1148) dL_law_24 (by decide) (fun c14 => ?_) (fun c14 => ?_)
    · have h := itt c14 h
      cases h
      obtain ⟨q0_, q1_, q2_, q3_⟩ := hE13 _ rfl
      exact G_cnt (G_sub F (L2 := [none, none, none, none]) trivial (KE13 _ q0_)) (by omega) (by omega) (by omega)
    · have h := itf c14 h
      refine G_aload_n F dL_law_27 rfl ?_
      refine G_iload_n F dL_law_28 rfl ?_
      obtain ⟨v15, e_v15, h⟩ := bnd h
      refine G_xld F hX hbz dL_law_29 e_v15 ?_
      refine G_bipush F (v := (31 : Int32)) dL_law_30 (by decide) ?_
      refine G_iand F dL_law_32 ?_
      by_cases c16 : (v15 &&& (31 : Int32)) = (0 : Int32)
      · have h := itt c16 h
        refine G_tabIn F (tgt := 176) dL_law_33 (by rw [c16]; decide) (by rw [c16]; decide) (by rw [c16]; rfl) (by decide) ?_
        refine G_aload_n F dL_law_176 rfl ?_
        refine G_aload_n F dL_law_177 rfl ?_
        refine G_iload_n F dL_law_178 rfl ?_
        refine G_iconst F (v := (1 : Int32)) dL_law_179 (by decide) ?_
        refine G_iadd F dL_law_180 ?_
        obtain ⟨v17, e_v17, h⟩ := bnd h
        refine G_xld F hX hbz dL_law_181 e_v17 ?_
        refine G_aload_n F dL_law_182 rfl ?_
        refine G_iload_n F dL_law_183 rfl ?_
        refine G_iconst F (v := (2 : Int32)) dL_law_184 (by decide) ?_
        refine G_iadd F dL_law_185 ?_
        obtain ⟨v18, e_v18, h⟩ := bnd h
        refine G_xld F hX hbz dL_law_186 e_v18 ?_
        refine G_aload_n F dL_law_187 rfl ?_
        refine G_iload_n F dL_law_188 rfl ?_
        refine G_iconst F (v := (3 : Int32)) dL_law_189 (by decide) ?_
        refine G_iadd F dL_law_190 ?_
        obtain ⟨v19, e_v19, h⟩ := bnd h
        refine G_xld F hX hbz dL_law_191 e_v19 ?_
        refine G_aload_n F dL_law_192 rfl ?_
        refine G_iload_n F dL_law_193 rfl ?_
        refine G_iconst F (v := (4 : Int32)) dL_law_194 (by decide) ?_
        refine G_iadd F dL_law_195 ?_
        obtain ⟨v20, e_v20, h⟩ := bnd h
        refine G_xld F hX hbz dL_law_196 e_v20 ?_
        obtain ⟨⟨v21, m22⟩, e_v21, h⟩ := bnd h
        obtain ⟨hc_v21, e_v21⟩ := hp_on_of e_v21
        refine G_callVv F (As := [.inl v17, .inl v18, .inl v19, .inl v20]) (st := []) (metX0_person X e_v21) hc_v21 rfl rfl (lw_V q405 q406 q407 q102 q408) hdfX0_person ⟨by omega, by decide⟩ rfl (Nat.le_of_ble_eq_true rfl) ⟨by omega, by omega⟩ dL_law_197 ?_
        refine G_aload_n F dL_law_200 rfl ?_
        refine G_aload_n F dL_law_201 rfl ?_
        refine G_iload_n F dL_law_202 rfl ?_
        refine G_iconst F (v := (1 : Int32)) dL_law_203 (by decide) ?_
        refine G_iadd F dL_law_204 ?_
        obtain ⟨v23, e_v23, h⟩ := bnd h
        refine G_xld F hX hbz dL_law_205 e_v23 ?_
        refine G_aload_n F dL_law_206 rfl ?_
        refine G_iload_n F dL_law_207 rfl ?_
        refine G_iconst F (v := (2 : Int32)) dL_law_208 (by decide) ?_
        refine G_iadd F dL_law_209 ?_
        obtain ⟨v24, e_v24, h⟩ := bnd h
        refine G_xld F hX hbz dL_law_210 e_v24 ?_
        refine G_aload_n F dL_law_211 rfl ?_
        refine G_iload_n F dL_law_212 rfl ?_
        refine G_iconst F (v := (3 : Int32)) dL_law_213 (by decide) ?_
        refine G_iadd F dL_law_214 ?_
        obtain ⟨v25, e_v25, h⟩ := bnd h
        refine G_xld F hX hbz dL_law_215 e_v25 ?_
        refine G_aload_n F dL_law_216 rfl ?_
        refine G_iload_n F dL_law_217 rfl ?_
        refine G_iconst F (v := (4 : Int32)) dL_law_218 (by decide) ?_
        refine G_iadd F dL_law_219 ?_
        obtain ⟨v26, e_v26, h⟩ := bnd h
        refine G_xld F hX hbz dL_law_220 e_v26 ?_
        obtain ⟨⟨v27, m28⟩, e_v27, h⟩ := bnd h
        obtain ⟨hc_v27, e_v27⟩ := hp_on_of e_v27
        refine G_callVv F (As := [.inl v23, .inl v24, .inl v25, .inl v26]) (st := [.inl v21]) (metX7_person X e_v27) hc_v27 rfl rfl (lw_V q1423 q1424 q1425 q109 q1426) hdfX7_person ⟨by omega, by decide⟩ rfl (Nat.le_of_ble_eq_true rfl) ⟨by omega, by omega⟩ dL_law_221 ?_
        refine G_icmp_eq F (tgt := 1142) dL_law_224 (by decide) (fun c29 => ?_) (fun c29 => ?_)
        · have h := itt c29 h
          refine G_iinc F (v := (s3_13 + (6 : Int32))) (L2 := [some (.inr (some b)), some (.inr (some (nx))), some (.inr (some (nx + 1 + d4))), some (.inl (s3_13 + (6 : Int32)))]) dL_law_1142 (by decide) rfl rfl rfl ?_
          refine G_goto F (tgt := 18) dL_law_1145 (by decide) ?_
          cases h
          exact G_cnt (G_sub F (L2 := [some (.inr (some b)), some (.inr (some (nx))), some (.inr (some (nx + 1 + d4))), some (.inl (s3_13 + (6 : Int32)))]) ⟨rfl, ⟨rfl, ⟨rfl, ⟨rfl, trivial⟩⟩⟩⟩ (hP13 _ rfl)) (by omega) (by omega) (by omega)
        · have h := itf c29 h
          refine G_iconst F (v := (0 : Int32)) dL_law_227 (by decide) ?_
          cases h
          obtain ⟨q0_, q1_, q2_, q3_⟩ := hE13 _ rfl
          have h := KR13 _ q0_
          exact (lz01 h).elim
      have h := itf c16 h
      by_cases c30 : (v15 &&& (31 : Int32)) = (1 : Int32)
      · have h := itt c30 h
        refine G_tabIn F (tgt := 229) dL_law_33 (by rw [c30]; decide) (by rw [c30]; decide) (by rw [c30]; rfl) (by decide) ?_
        refine G_aload_n F dL_law_229 rfl ?_
        refine G_aload_n F dL_law_230 rfl ?_
        refine G_iload_n F dL_law_231 rfl ?_
        refine G_iconst F (v := (1 : Int32)) dL_law_232 (by decide) ?_
        refine G_iadd F dL_law_233 ?_
        obtain ⟨v31, e_v31, h⟩ := bnd h
        refine G_xld F hX hbz dL_law_234 e_v31 ?_
        obtain ⟨⟨v32, m33⟩, e_v32, h⟩ := bnd h
        obtain ⟨hc_v32, e_v32⟩ := hp_on_of e_v32
        refine G_callVv F (As := [.inl v31]) (st := []) (metX0_changing X e_v32) hc_v32 rfl rfl (lw_V q418 q419 q420 q102 q421) hdfX0_changing ⟨by omega, by decide⟩ rfl (Nat.le_of_ble_eq_true rfl) ⟨by omega, by omega⟩ dL_law_235 ?_
        refine G_aload_n F dL_law_238 rfl ?_
        refine G_aload_n F dL_law_239 rfl ?_
        refine G_iload_n F dL_law_240 rfl ?_
        refine G_iconst F (v := (1 : Int32)) dL_law_241 (by decide) ?_
        refine G_iadd F dL_law_242 ?_
        obtain ⟨v34, e_v34, h⟩ := bnd h
        refine G_xld F hX hbz dL_law_243 e_v34 ?_
        obtain ⟨⟨v35, m36⟩, e_v35, h⟩ := bnd h
        obtain ⟨hc_v35, e_v35⟩ := hp_on_of e_v35
        refine G_callVv F (As := [.inl v34]) (st := [.inl v32]) (metX7_changing X e_v35) hc_v35 rfl rfl (lw_V q1436 q1437 q1438 q109 q1439) hdfX7_changing ⟨by omega, by decide⟩ rfl (Nat.le_of_ble_eq_true rfl) ⟨by omega, by omega⟩ dL_law_244 ?_
        refine G_icmp_eq F (tgt := 1142) dL_law_247 (by decide) (fun c37 => ?_) (fun c37 => ?_)
        · have h := itt c37 h
          refine G_iinc F (v := (s3_13 + (6 : Int32))) (L2 := [some (.inr (some b)), some (.inr (some (nx))), some (.inr (some (nx + 1 + d4))), some (.inl (s3_13 + (6 : Int32)))]) dL_law_1142 (by decide) rfl rfl rfl ?_
          refine G_goto F (tgt := 18) dL_law_1145 (by decide) ?_
          cases h
          exact G_cnt (G_sub F (L2 := [some (.inr (some b)), some (.inr (some (nx))), some (.inr (some (nx + 1 + d4))), some (.inl (s3_13 + (6 : Int32)))]) ⟨rfl, ⟨rfl, ⟨rfl, ⟨rfl, trivial⟩⟩⟩⟩ (hP13 _ rfl)) (by omega) (by omega) (by omega)
        · have h := itf c37 h
          refine G_iconst F (v := (0 : Int32)) dL_law_250 (by decide) ?_
          cases h
          obtain ⟨q0_, q1_, q2_, q3_⟩ := hE13 _ rfl
          have h := KR13 _ q0_
          exact (lz01 h).elim
      have h := itf c30 h
      by_cases c38 : (v15 &&& (31 : Int32)) = (2 : Int32)
      · have h := itt c38 h
        refine G_tabIn F (tgt := 252) dL_law_33 (by rw [c38]; decide) (by rw [c38]; decide) (by rw [c38]; rfl) (by decide) ?_
        refine G_aload_n F dL_law_252 rfl ?_
        refine G_aload_n F dL_law_253 rfl ?_
        refine G_iload_n F dL_law_254 rfl ?_
        refine G_iconst F (v := (1 : Int32)) dL_law_255 (by decide) ?_
        refine G_iadd F dL_law_256 ?_
        obtain ⟨v39, e_v39, h⟩ := bnd h
        refine G_xld F hX hbz dL_law_257 e_v39 ?_
        refine G_aload_n F dL_law_258 rfl ?_
        refine G_iload_n F dL_law_259 rfl ?_
        refine G_iconst F (v := (2 : Int32)) dL_law_260 (by decide) ?_
        refine G_iadd F dL_law_261 ?_
        obtain ⟨v40, e_v40, h⟩ := bnd h
        refine G_xld F hX hbz dL_law_262 e_v40 ?_
        refine G_aload_n F dL_law_263 rfl ?_
        refine G_iload_n F dL_law_264 rfl ?_
        refine G_iconst F (v := (3 : Int32)) dL_law_265 (by decide) ?_
        refine G_iadd F dL_law_266 ?_
        obtain ⟨v41, e_v41, h⟩ := bnd h
        refine G_xld F hX hbz dL_law_267 e_v41 ?_
        refine G_aload_n F dL_law_268 rfl ?_
        refine G_iload_n F dL_law_269 rfl ?_
        refine G_iconst F (v := (4 : Int32)) dL_law_270 (by decide) ?_
        refine G_iadd F dL_law_271 ?_
        obtain ⟨v42, e_v42, h⟩ := bnd h
        refine G_xld F hX hbz dL_law_272 e_v42 ?_
        refine G_aload_n F dL_law_273 rfl ?_
        refine G_iload_n F dL_law_274 rfl ?_
        refine G_iconst F (v := (5 : Int32)) dL_law_275 (by decide) ?_
        refine G_iadd F dL_law_276 ?_
        obtain ⟨v43, e_v43, h⟩ := bnd h
        refine G_xld F hX hbz dL_law_277 e_v43 ?_
        obtain ⟨⟨v44, m45⟩, e_v44, h⟩ := bnd h
        obtain ⟨hc_v44, e_v44⟩ := hp_on_of e_v44
        refine G_callVv F (As := [.inl v39, .inl v40, .inl v41, .inl v42, .inl v43]) (st := []) (metX0_feed X e_v44) hc_v44 rfl rfl (lw_V q425 q426 q427 q102 q428) hdfX0_feed ⟨by omega, by decide⟩ rfl (Nat.le_of_ble_eq_true rfl) ⟨by omega, by omega⟩ dL_law_278 ?_
        refine G_aload_n F dL_law_281 rfl ?_
        refine G_aload_n F dL_law_282 rfl ?_
        refine G_iload_n F dL_law_283 rfl ?_
        refine G_iconst F (v := (1 : Int32)) dL_law_284 (by decide) ?_
        refine G_iadd F dL_law_285 ?_
        obtain ⟨v46, e_v46, h⟩ := bnd h
        refine G_xld F hX hbz dL_law_286 e_v46 ?_
        refine G_aload_n F dL_law_287 rfl ?_
        refine G_iload_n F dL_law_288 rfl ?_
        refine G_iconst F (v := (2 : Int32)) dL_law_289 (by decide) ?_
        refine G_iadd F dL_law_290 ?_
        obtain ⟨v47, e_v47, h⟩ := bnd h
        refine G_xld F hX hbz dL_law_291 e_v47 ?_
        refine G_aload_n F dL_law_292 rfl ?_
        refine G_iload_n F dL_law_293 rfl ?_
        refine G_iconst F (v := (3 : Int32)) dL_law_294 (by decide) ?_
        refine G_iadd F dL_law_295 ?_
        obtain ⟨v48, e_v48, h⟩ := bnd h
        refine G_xld F hX hbz dL_law_296 e_v48 ?_
        refine G_aload_n F dL_law_297 rfl ?_
        refine G_iload_n F dL_law_298 rfl ?_
        refine G_iconst F (v := (4 : Int32)) dL_law_299 (by decide) ?_
        refine G_iadd F dL_law_300 ?_
        obtain ⟨v49, e_v49, h⟩ := bnd h
        refine G_xld F hX hbz dL_law_301 e_v49 ?_
        refine G_aload_n F dL_law_302 rfl ?_
        refine G_iload_n F dL_law_303 rfl ?_
        refine G_iconst F (v := (5 : Int32)) dL_law_304 (by decide) ?_
        refine G_iadd F dL_law_305 ?_
        obtain ⟨v50, e_v50, h⟩ := bnd h
        refine G_xld F hX hbz dL_law_306 e_v50 ?_
        obtain ⟨⟨v51, m52⟩, e_v51, h⟩ := bnd h
        obtain ⟨hc_v51, e_v51⟩ := hp_on_of e_v51
        refine G_callVv F (As := [.inl v46, .inl v47, .inl v48, .inl v49, .inl v50]) (st := [.inl v44]) (metX7_feed X e_v51) hc_v51 rfl rfl (lw_V q1440 q1441 q1442 q109 q1443) hdfX7_feed ⟨by omega, by decide⟩ rfl (Nat.le_of_ble_eq_true rfl) ⟨by omega, by omega⟩ dL_law_307 ?_
        refine G_icmp_eq F (tgt := 1142) dL_law_310 (by decide) (fun c53 => ?_) (fun c53 => ?_)
        · have h := itt c53 h
          refine G_iinc F (v := (s3_13 + (6 : Int32))) (L2 := [some (.inr (some b)), some (.inr (some (nx))), some (.inr (some (nx + 1 + d4))), some (.inl (s3_13 + (6 : Int32)))]) dL_law_1142 (by decide) rfl rfl rfl ?_
          refine G_goto F (tgt := 18) dL_law_1145 (by decide) ?_
          cases h
          exact G_cnt (G_sub F (L2 := [some (.inr (some b)), some (.inr (some (nx))), some (.inr (some (nx + 1 + d4))), some (.inl (s3_13 + (6 : Int32)))]) ⟨rfl, ⟨rfl, ⟨rfl, ⟨rfl, trivial⟩⟩⟩⟩ (hP13 _ rfl)) (by omega) (by omega) (by omega)
        · have h := itf c53 h
          refine G_iconst F (v := (0 : Int32)) dL_law_313 (by decide) ?_
          cases h
          obtain ⟨q0_, q1_, q2_, q3_⟩ := hE13 _ rfl
          have h := KR13 _ q0_
          exact (lz01 h).elim
      have h := itf c38 h
      by_cases c54 : (v15 &&& (31 : Int32)) = (3 : Int32)
      · have h := itt c54 h
        refine G_tabIn F (tgt := 315) dL_law_33 (by rw [c54]; decide) (by rw [c54]; decide) (by rw [c54]; rfl) (by decide) ?_
        refine G_aload_n F dL_law_315 rfl ?_
        refine G_aload_n F dL_law_316 rfl ?_
        refine G_iload_n F dL_law_317 rfl ?_
        refine G_iconst F (v := (1 : Int32)) dL_law_318 (by decide) ?_
        refine G_iadd F dL_law_319 ?_
        obtain ⟨v55, e_v55, h⟩ := bnd h
        refine G_xld F hX hbz dL_law_320 e_v55 ?_
        obtain ⟨⟨⟨v56, m57⟩, d58, c59⟩, e_v56, h⟩ := bnd h
        obtain ⟨D60, C60, h, hD60, hC60⟩ := andA_of h; try dsimp only at hD60 hC60
        obtain ⟨hc_v56, e_v56⟩ := hp_on_of e_v56
        refine G_callVv F (As := [.inl v55]) (st := []) (metX0_law X e_v56) hc_v56 rfl rfl (lw_V q433 q434 q435 q102 q436) hdfX0_law ⟨by omega, by decide⟩ rfl (Nat.le_of_ble_eq_true rfl) ⟨by omega, by omega⟩ dL_law_321 ?_
        refine G_aload_n F dL_law_324 rfl ?_
        refine G_aload_n F dL_law_325 rfl ?_
        refine G_iload_n F dL_law_326 rfl ?_
        refine G_iconst F (v := (1 : Int32)) dL_law_327 (by decide) ?_
        refine G_iadd F dL_law_328 ?_
        obtain ⟨v61, e_v61, h⟩ := bnd h
        refine G_xld F hX hbz dL_law_329 e_v61 ?_
        obtain ⟨⟨v62, m63⟩, e_v62, h⟩ := bnd h
        obtain ⟨hc_v62, e_v62⟩ := hp_on_of e_v62
        refine G_callVv F (As := [.inl v61]) (st := [.inl v56]) (metX7_law X e_v62) hc_v62 rfl rfl (lw_V q1448 q1449 q1450 q109 q1451) hdfX7_law ⟨by omega, by decide⟩ rfl (Nat.le_of_ble_eq_true rfl) ⟨by omega, by omega⟩ dL_law_330 ?_
        refine G_icmp_eq F (tgt := 1142) dL_law_333 (by decide) (fun c64 => ?_) (fun c64 => ?_)
        · have h := itt c64 h
          refine G_iinc F (v := (s3_13 + (6 : Int32))) (L2 := [some (.inr (some b)), some (.inr (some (nx))), some (.inr (some (nx + 1 + d4))), some (.inl (s3_13 + (6 : Int32)))]) dL_law_1142 (by decide) rfl rfl rfl ?_
          refine G_goto F (tgt := 18) dL_law_1145 (by decide) ?_
          cases h
          exact G_cnt (G_sub F (L2 := [some (.inr (some b)), some (.inr (some (nx))), some (.inr (some (nx + 1 + d4))), some (.inl (s3_13 + (6 : Int32)))]) ⟨rfl, ⟨rfl, ⟨rfl, ⟨rfl, trivial⟩⟩⟩⟩ (hP13 _ rfl)) (by omega) (by omega) (by omega)
        · have h := itf c64 h
          refine G_iconst F (v := (0 : Int32)) dL_law_336 (by decide) ?_
          cases h
          obtain ⟨q0_, q1_, q2_, q3_⟩ := hE13 _ rfl
          have h := KR13 _ q0_
          exact (lz01 h).elim
      have h := itf c54 h
      by_cases c65 : (v15 &&& (31 : Int32)) = (4 : Int32)
      · have h := itt c65 h
        refine G_tabIn F (tgt := 338) dL_law_33 (by rw [c65]; decide) (by rw [c65]; decide) (by rw [c65]; rfl) (by decide) ?_
        refine G_aload_n F dL_law_338 rfl ?_
        refine G_aload_n F dL_law_339 rfl ?_
        refine G_iload_n F dL_law_340 rfl ?_
        refine G_iconst F (v := (1 : Int32)) dL_law_341 (by decide) ?_
        refine G_iadd F dL_law_342 ?_
        obtain ⟨v66, e_v66, h⟩ := bnd h
        refine G_xld F hX hbz dL_law_343 e_v66 ?_
        obtain ⟨⟨⟨v67, m68⟩, d69, c70⟩, e_v67, h⟩ := bnd h
        obtain ⟨D71, C71, h, hD71, hC71⟩ := andA_of h; try dsimp only at hD71 hC71
        obtain ⟨hc_v67, e_v67⟩ := hp_on_of e_v67
        refine G_callVv F (As := [.inl v66]) (st := []) (metX0_timetable X e_v67) hc_v67 rfl rfl (lw_V q702 q703 q704 q102 q705) hdfX0_timetable ⟨by omega, by decide⟩ rfl (Nat.le_of_ble_eq_true rfl) ⟨by omega, by omega⟩ dL_law_344 ?_
        refine G_aload_n F dL_law_347 rfl ?_
        refine G_aload_n F dL_law_348 rfl ?_
        refine G_iload_n F dL_law_349 rfl ?_
        refine G_iconst F (v := (1 : Int32)) dL_law_350 (by decide) ?_
        refine G_iadd F dL_law_351 ?_
        obtain ⟨v72, e_v72, h⟩ := bnd h
        refine G_xld F hX hbz dL_law_352 e_v72 ?_
        obtain ⟨⟨v73, m74⟩, e_v73, h⟩ := bnd h
        obtain ⟨hc_v73, e_v73⟩ := hp_on_of e_v73
        refine G_callVv F (As := [.inl v72]) (st := [.inl v67]) (metX7_timetable X e_v73) hc_v73 rfl rfl (lw_V q1535 q1536 q1537 q109 q1538) hdfX7_timetable ⟨by omega, by decide⟩ rfl (Nat.le_of_ble_eq_true rfl) ⟨by omega, by omega⟩ dL_law_353 ?_
        refine G_icmp_eq F (tgt := 1142) dL_law_356 (by decide) (fun c75 => ?_) (fun c75 => ?_)
        · have h := itt c75 h
          refine G_iinc F (v := (s3_13 + (6 : Int32))) (L2 := [some (.inr (some b)), some (.inr (some (nx))), some (.inr (some (nx + 1 + d4))), some (.inl (s3_13 + (6 : Int32)))]) dL_law_1142 (by decide) rfl rfl rfl ?_
          refine G_goto F (tgt := 18) dL_law_1145 (by decide) ?_
          cases h
          exact G_cnt (G_sub F (L2 := [some (.inr (some b)), some (.inr (some (nx))), some (.inr (some (nx + 1 + d4))), some (.inl (s3_13 + (6 : Int32)))]) ⟨rfl, ⟨rfl, ⟨rfl, ⟨rfl, trivial⟩⟩⟩⟩ (hP13 _ rfl)) (by omega) (by omega) (by omega)
        · have h := itf c75 h
          refine G_iconst F (v := (0 : Int32)) dL_law_359 (by decide) ?_
          cases h
          obtain ⟨q0_, q1_, q2_, q3_⟩ := hE13 _ rfl
          have h := KR13 _ q0_
          exact (lz01 h).elim
      have h := itf c65 h
      by_cases c76 : (v15 &&& (31 : Int32)) = (5 : Int32)
      · have h := itt c76 h
        refine G_tabIn F (tgt := 361) dL_law_33 (by rw [c76]; decide) (by rw [c76]; decide) (by rw [c76]; rfl) (by decide) ?_
        refine G_aload_n F dL_law_361 rfl ?_
        refine G_aload_n F dL_law_362 rfl ?_
        refine G_iload_n F dL_law_363 rfl ?_
        refine G_iconst F (v := (1 : Int32)) dL_law_364 (by decide) ?_
        refine G_iadd F dL_law_365 ?_
        obtain ⟨v77, e_v77, h⟩ := bnd h
        refine G_xld F hX hbz dL_law_366 e_v77 ?_
        obtain ⟨⟨⟨v78, m79⟩, d80, c81⟩, e_v78, h⟩ := bnd h
        obtain ⟨D82, C82, h, hD82, hC82⟩ := andA_of h; try dsimp only at hD82 hC82
        obtain ⟨hc_v78, e_v78⟩ := hp_on_of e_v78
        refine G_callVv F (As := [.inl v77]) (st := []) (metX0_orders X e_v78) hc_v78 rfl rfl (lw_V q874 q875 q876 q102 q877) hdfX0_orders ⟨by omega, by decide⟩ rfl (Nat.le_of_ble_eq_true rfl) ⟨by omega, by omega⟩ dL_law_367 ?_
        refine G_aload_n F dL_law_370 rfl ?_
        refine G_aload_n F dL_law_371 rfl ?_
        refine G_iload_n F dL_law_372 rfl ?_
        refine G_iconst F (v := (1 : Int32)) dL_law_373 (by decide) ?_
        refine G_iadd F dL_law_374 ?_
        obtain ⟨v83, e_v83, h⟩ := bnd h
        refine G_xld F hX hbz dL_law_375 e_v83 ?_
        obtain ⟨⟨v84, m85⟩, e_v84, h⟩ := bnd h
        obtain ⟨hc_v84, e_v84⟩ := hp_on_of e_v84
        refine G_callVv F (As := [.inl v83]) (st := [.inl v78]) (metX7_orders X e_v84) hc_v84 rfl rfl (lw_V q1562 q1563 q1564 q109 q1565) hdfX7_orders ⟨by omega, by decide⟩ rfl (Nat.le_of_ble_eq_true rfl) ⟨by omega, by omega⟩ dL_law_376 ?_
        refine G_icmp_eq F (tgt := 1142) dL_law_379 (by decide) (fun c86 => ?_) (fun c86 => ?_)
        · have h := itt c86 h
          refine G_iinc F (v := (s3_13 + (6 : Int32))) (L2 := [some (.inr (some b)), some (.inr (some (nx))), some (.inr (some (nx + 1 + d4))), some (.inl (s3_13 + (6 : Int32)))]) dL_law_1142 (by decide) rfl rfl rfl ?_
          refine G_goto F (tgt := 18) dL_law_1145 (by decide) ?_
          cases h
          exact G_cnt (G_sub F (L2 := [some (.inr (some b)), some (.inr (some (nx))), some (.inr (some (nx + 1 + d4))), some (.inl (s3_13 + (6 : Int32)))]) ⟨rfl, ⟨rfl, ⟨rfl, ⟨rfl, trivial⟩⟩⟩⟩ (hP13 _ rfl)) (by omega) (by omega) (by omega)
        · have h := itf c86 h
          refine G_iconst F (v := (0 : Int32)) dL_law_382 (by decide) ?_
          cases h
          obtain ⟨q0_, q1_, q2_, q3_⟩ := hE13 _ rfl
          have h := KR13 _ q0_
          exact (lz01 h).elim
      have h := itf c76 h
      by_cases c87 : (v15 &&& (31 : Int32)) = (6 : Int32)
      · have h := itt c87 h
        refine G_tabIn F (tgt := 384) dL_law_33 (by rw [c87]; decide) (by rw [c87]; decide) (by rw [c87]; rfl) (by decide) ?_
        refine G_aload_n F dL_law_384 rfl ?_
        refine G_aload_n F dL_law_385 rfl ?_
        refine G_iload_n F dL_law_386 rfl ?_
        refine G_iconst F (v := (1 : Int32)) dL_law_387 (by decide) ?_
        refine G_iadd F dL_law_388 ?_
        obtain ⟨v88, e_v88, h⟩ := bnd h
        refine G_xld F hX hbz dL_law_389 e_v88 ?_
        obtain ⟨⟨v89, m90⟩, e_v89, h⟩ := bnd h
        obtain ⟨hc_v89, e_v89⟩ := hp_on_of e_v89
        refine G_callVv F (As := [.inl v88]) (st := []) (metX0_days X e_v89) hc_v89 rfl rfl (lw_V q906 q907 q908 q102 q909) hdfX0_days ⟨by omega, by decide⟩ rfl (Nat.le_of_ble_eq_true rfl) ⟨by omega, by omega⟩ dL_law_390 ?_
        refine G_aload_n F dL_law_393 rfl ?_
        refine G_aload_n F dL_law_394 rfl ?_
        refine G_iload_n F dL_law_395 rfl ?_
        refine G_iconst F (v := (1 : Int32)) dL_law_396 (by decide) ?_
        refine G_iadd F dL_law_397 ?_
        obtain ⟨v91, e_v91, h⟩ := bnd h
        refine G_xld F hX hbz dL_law_398 e_v91 ?_
        obtain ⟨⟨v92, m93⟩, e_v92, h⟩ := bnd h
        obtain ⟨hc_v92, e_v92⟩ := hp_on_of e_v92
        refine G_callVv F (As := [.inl v91]) (st := [.inl v89]) (metX7_days X e_v92) hc_v92 rfl rfl (lw_V q1570 q1571 q1572 q109 q1573) hdfX7_days ⟨by omega, by decide⟩ rfl (Nat.le_of_ble_eq_true rfl) ⟨by omega, by omega⟩ dL_law_399 ?_
        refine G_icmp_eq F (tgt := 1142) dL_law_402 (by decide) (fun c94 => ?_) (fun c94 => ?_)
        · have h := itt c94 h
          refine G_iinc F (v := (s3_13 + (6 : Int32))) (L2 := [some (.inr (some b)), some (.inr (some (nx))), some (.inr (some (nx + 1 + d4))), some (.inl (s3_13 + (6 : Int32)))]) dL_law_1142 (by decide) rfl rfl rfl ?_
          refine G_goto F (tgt := 18) dL_law_1145 (by decide) ?_
          cases h
          exact G_cnt (G_sub F (L2 := [some (.inr (some b)), some (.inr (some (nx))), some (.inr (some (nx + 1 + d4))), some (.inl (s3_13 + (6 : Int32)))]) ⟨rfl, ⟨rfl, ⟨rfl, ⟨rfl, trivial⟩⟩⟩⟩ (hP13 _ rfl)) (by omega) (by omega) (by omega)
        · have h := itf c94 h
          refine G_iconst F (v := (0 : Int32)) dL_law_405 (by decide) ?_
          cases h
          obtain ⟨q0_, q1_, q2_, q3_⟩ := hE13 _ rfl
          have h := KR13 _ q0_
          exact (lz01 h).elim
      have h := itf c87 h
      by_cases c95 : (v15 &&& (31 : Int32)) = (7 : Int32)
      · have h := itt c95 h
        refine G_tabIn F (tgt := 407) dL_law_33 (by rw [c95]; decide) (by rw [c95]; decide) (by rw [c95]; rfl) (by decide) ?_
        refine G_aload_n F dL_law_407 rfl ?_
        refine G_aload_n F dL_law_408 rfl ?_
        refine G_iload_n F dL_law_409 rfl ?_
        refine G_iconst F (v := (1 : Int32)) dL_law_410 (by decide) ?_
        refine G_iadd F dL_law_411 ?_
        obtain ⟨v96, e_v96, h⟩ := bnd h
        refine G_xld F hX hbz dL_law_412 e_v96 ?_
        refine G_aload_n F dL_law_413 rfl ?_
        refine G_iload_n F dL_law_414 rfl ?_
        refine G_iconst F (v := (2 : Int32)) dL_law_415 (by decide) ?_
        refine G_iadd F dL_law_416 ?_
        obtain ⟨v97, e_v97, h⟩ := bnd h
        refine G_xld F hX hbz dL_law_417 e_v97 ?_
        obtain ⟨⟨v98, m99⟩, e_v98, h⟩ := bnd h
        obtain ⟨hc_v98, e_v98⟩ := hp_on_of e_v98
        refine G_callVv F (As := [.inl v96, .inl v97]) (st := []) (metX0_tried X e_v98) hc_v98 rfl rfl (lw_V q1012 q1013 q1014 q102 q1015) hdfX0_tried ⟨by omega, by decide⟩ rfl (Nat.le_of_ble_eq_true rfl) ⟨by omega, by omega⟩ dL_law_418 ?_
        refine G_aload_n F dL_law_421 rfl ?_
        refine G_aload_n F dL_law_422 rfl ?_
        refine G_iload_n F dL_law_423 rfl ?_
        refine G_iconst F (v := (1 : Int32)) dL_law_424 (by decide) ?_
        refine G_iadd F dL_law_425 ?_
        obtain ⟨v100, e_v100, h⟩ := bnd h
        refine G_xld F hX hbz dL_law_426 e_v100 ?_
        refine G_aload_n F dL_law_427 rfl ?_
        refine G_iload_n F dL_law_428 rfl ?_
        refine G_iconst F (v := (2 : Int32)) dL_law_429 (by decide) ?_
        refine G_iadd F dL_law_430 ?_
        obtain ⟨v101, e_v101, h⟩ := bnd h
        refine G_xld F hX hbz dL_law_431 e_v101 ?_
        obtain ⟨⟨v102, m103⟩, e_v102, h⟩ := bnd h
        obtain ⟨hc_v102, e_v102⟩ := hp_on_of e_v102
        refine G_callVv F (As := [.inl v100, .inl v101]) (st := [.inl v98]) (metX7_tried X e_v102) hc_v102 rfl rfl (lw_V q1632 q1633 q1634 q109 q1635) hdfX7_tried ⟨by omega, by decide⟩ rfl (Nat.le_of_ble_eq_true rfl) ⟨by omega, by omega⟩ dL_law_432 ?_
        refine G_icmp_eq F (tgt := 1142) dL_law_435 (by decide) (fun c104 => ?_) (fun c104 => ?_)
        · have h := itt c104 h
          refine G_iinc F (v := (s3_13 + (6 : Int32))) (L2 := [some (.inr (some b)), some (.inr (some (nx))), some (.inr (some (nx + 1 + d4))), some (.inl (s3_13 + (6 : Int32)))]) dL_law_1142 (by decide) rfl rfl rfl ?_
          refine G_goto F (tgt := 18) dL_law_1145 (by decide) ?_
          cases h
          exact G_cnt (G_sub F (L2 := [some (.inr (some b)), some (.inr (some (nx))), some (.inr (some (nx + 1 + d4))), some (.inl (s3_13 + (6 : Int32)))]) ⟨rfl, ⟨rfl, ⟨rfl, ⟨rfl, trivial⟩⟩⟩⟩ (hP13 _ rfl)) (by omega) (by omega) (by omega)
        · have h := itf c104 h
          refine G_iconst F (v := (0 : Int32)) dL_law_438 (by decide) ?_
          cases h
          obtain ⟨q0_, q1_, q2_, q3_⟩ := hE13 _ rfl
          have h := KR13 _ q0_
          exact (lz01 h).elim
      have h := itf c95 h
      by_cases c105 : (v15 &&& (31 : Int32)) = (8 : Int32)
      · have h := itt c105 h
        refine G_tabIn F (tgt := 440) dL_law_33 (by rw [c105]; decide) (by rw [c105]; decide) (by rw [c105]; rfl) (by decide) ?_
        refine G_aload_n F dL_law_440 rfl ?_
        refine G_aload_n F dL_law_441 rfl ?_
        refine G_iload_n F dL_law_442 rfl ?_
        refine G_iconst F (v := (1 : Int32)) dL_law_443 (by decide) ?_
        refine G_iadd F dL_law_444 ?_
        obtain ⟨v106, e_v106, h⟩ := bnd h
        refine G_xld F hX hbz dL_law_445 e_v106 ?_
        refine G_aload_n F dL_law_446 rfl ?_
        refine G_iload_n F dL_law_447 rfl ?_
        refine G_iconst F (v := (2 : Int32)) dL_law_448 (by decide) ?_
        refine G_iadd F dL_law_449 ?_
        obtain ⟨v107, e_v107, h⟩ := bnd h
        refine G_xld F hX hbz dL_law_450 e_v107 ?_
        obtain ⟨v108, e_v108, h⟩ := bnd h
        obtain ⟨hc_v108, e_v108⟩ := hp_on_of e_v108
        refine G_callVv F (As := [.inl v106, .inl v107]) (st := []) (metX0_personIs X e_v108) hc_v108 rfl rfl (lw_V q1028 q1029 q1030 q102 q1031) hdfX0_personIs ⟨by omega, by decide⟩ rfl (Nat.le_of_ble_eq_true rfl) ⟨by omega, by omega⟩ dL_law_451 ?_
        refine G_aload_n F dL_law_454 rfl ?_
        refine G_aload_n F dL_law_455 rfl ?_
        refine G_iload_n F dL_law_456 rfl ?_
        refine G_iconst F (v := (1 : Int32)) dL_law_457 (by decide) ?_
        refine G_iadd F dL_law_458 ?_
        obtain ⟨v109, e_v109, h⟩ := bnd h
        refine G_xld F hX hbz dL_law_459 e_v109 ?_
        refine G_aload_n F dL_law_460 rfl ?_
        refine G_iload_n F dL_law_461 rfl ?_
        refine G_iconst F (v := (2 : Int32)) dL_law_462 (by decide) ?_
        refine G_iadd F dL_law_463 ?_
        obtain ⟨v110, e_v110, h⟩ := bnd h
        refine G_xld F hX hbz dL_law_464 e_v110 ?_
        obtain ⟨v111, e_v111, h⟩ := bnd h
        obtain ⟨hc_v111, e_v111⟩ := hp_on_of e_v111
        refine G_callVv F (As := [.inl v109, .inl v110]) (st := [.inl v108]) (metX7_personIs X e_v111) hc_v111 rfl rfl (lw_V q1643 q1644 q1645 q109 q1646) hdfX7_personIs ⟨by omega, by decide⟩ rfl (Nat.le_of_ble_eq_true rfl) ⟨by omega, by omega⟩ dL_law_465 ?_
        refine G_icmp_eq F (tgt := 1142) dL_law_468 (by decide) (fun c112 => ?_) (fun c112 => ?_)
        · have h := itt c112 h
          refine G_iinc F (v := (s3_13 + (6 : Int32))) (L2 := [some (.inr (some b)), some (.inr (some (nx))), some (.inr (some (nx + 1 + d4))), some (.inl (s3_13 + (6 : Int32)))]) dL_law_1142 (by decide) rfl rfl rfl ?_
          refine G_goto F (tgt := 18) dL_law_1145 (by decide) ?_
          cases h
          exact G_cnt (G_sub F (L2 := [some (.inr (some b)), some (.inr (some (nx))), some (.inr (some (nx + 1 + d4))), some (.inl (s3_13 + (6 : Int32)))]) ⟨rfl, ⟨rfl, ⟨rfl, ⟨rfl, trivial⟩⟩⟩⟩ (hP13 _ rfl)) (by omega) (by omega) (by omega)
        · have h := itf c112 h
          refine G_iconst F (v := (0 : Int32)) dL_law_471 (by decide) ?_
          cases h
          obtain ⟨q0_, q1_, q2_, q3_⟩ := hE13 _ rfl
          have h := KR13 _ q0_
          exact (lz01 h).elim
      have h := itf c105 h
      by_cases c113 : (v15 &&& (31 : Int32)) = (9 : Int32)
      · have h := itt c113 h
        refine G_tabIn F (tgt := 473) dL_law_33 (by rw [c113]; decide) (by rw [c113]; decide) (by rw [c113]; rfl) (by decide) ?_
        refine G_aload_n F dL_law_473 rfl ?_
        refine G_aload_n F dL_law_474 rfl ?_
        refine G_iload_n F dL_law_475 rfl ?_
        refine G_iconst F (v := (1 : Int32)) dL_law_476 (by decide) ?_
        refine G_iadd F dL_law_477 ?_
        obtain ⟨v114, e_v114, h⟩ := bnd h
        refine G_xld F hX hbz dL_law_478 e_v114 ?_
        refine G_aload_n F dL_law_479 rfl ?_
        refine G_iload_n F dL_law_480 rfl ?_
        refine G_iconst F (v := (2 : Int32)) dL_law_481 (by decide) ?_
        refine G_iadd F dL_law_482 ?_
        obtain ⟨v115, e_v115, h⟩ := bnd h
        refine G_xld F hX hbz dL_law_483 e_v115 ?_
        obtain ⟨v116, e_v116, h⟩ := bnd h
        obtain ⟨hc_v116, e_v116⟩ := hp_on_of e_v116
        refine G_callVv F (As := [.inl v114, .inl v115]) (st := []) (metX0_trainIs X e_v116) hc_v116 rfl rfl (lw_V q1032 q1033 q1034 q102 q1035) hdfX0_trainIs ⟨by omega, by decide⟩ rfl (Nat.le_of_ble_eq_true rfl) ⟨by omega, by omega⟩ dL_law_484 ?_
        refine G_aload_n F dL_law_487 rfl ?_
        refine G_aload_n F dL_law_488 rfl ?_
        refine G_iload_n F dL_law_489 rfl ?_
        refine G_iconst F (v := (1 : Int32)) dL_law_490 (by decide) ?_
        refine G_iadd F dL_law_491 ?_
        obtain ⟨v117, e_v117, h⟩ := bnd h
        refine G_xld F hX hbz dL_law_492 e_v117 ?_
        refine G_aload_n F dL_law_493 rfl ?_
        refine G_iload_n F dL_law_494 rfl ?_
        refine G_iconst F (v := (2 : Int32)) dL_law_495 (by decide) ?_
        refine G_iadd F dL_law_496 ?_
        obtain ⟨v118, e_v118, h⟩ := bnd h
        refine G_xld F hX hbz dL_law_497 e_v118 ?_
        obtain ⟨v119, e_v119, h⟩ := bnd h
        obtain ⟨hc_v119, e_v119⟩ := hp_on_of e_v119
        refine G_callVv F (As := [.inl v117, .inl v118]) (st := [.inl v116]) (metX7_trainIs X e_v119) hc_v119 rfl rfl (lw_V q1647 q1648 q1649 q109 q1650) hdfX7_trainIs ⟨by omega, by decide⟩ rfl (Nat.le_of_ble_eq_true rfl) ⟨by omega, by omega⟩ dL_law_498 ?_
        refine G_icmp_eq F (tgt := 1142) dL_law_501 (by decide) (fun c120 => ?_) (fun c120 => ?_)
        · have h := itt c120 h
          refine G_iinc F (v := (s3_13 + (6 : Int32))) (L2 := [some (.inr (some b)), some (.inr (some (nx))), some (.inr (some (nx + 1 + d4))), some (.inl (s3_13 + (6 : Int32)))]) dL_law_1142 (by decide) rfl rfl rfl ?_
          refine G_goto F (tgt := 18) dL_law_1145 (by decide) ?_
          cases h
          exact G_cnt (G_sub F (L2 := [some (.inr (some b)), some (.inr (some (nx))), some (.inr (some (nx + 1 + d4))), some (.inl (s3_13 + (6 : Int32)))]) ⟨rfl, ⟨rfl, ⟨rfl, ⟨rfl, trivial⟩⟩⟩⟩ (hP13 _ rfl)) (by omega) (by omega) (by omega)
        · have h := itf c120 h
          refine G_iconst F (v := (0 : Int32)) dL_law_504 (by decide) ?_
          cases h
          obtain ⟨q0_, q1_, q2_, q3_⟩ := hE13 _ rfl
          have h := KR13 _ q0_
          exact (lz01 h).elim
      have h := itf c113 h
      by_cases c121 : (v15 &&& (31 : Int32)) = (10 : Int32)
      · have h := itt c121 h
        refine G_tabIn F (tgt := 506) dL_law_33 (by rw [c121]; decide) (by rw [c121]; decide) (by rw [c121]; rfl) (by decide) ?_
        refine G_aload_n F dL_law_506 rfl ?_
        refine G_aload_n F dL_law_507 rfl ?_
        refine G_iload_n F dL_law_508 rfl ?_
        refine G_iconst F (v := (1 : Int32)) dL_law_509 (by decide) ?_
        refine G_iadd F dL_law_510 ?_
        obtain ⟨v122, e_v122, h⟩ := bnd h
        refine G_xld F hX hbz dL_law_511 e_v122 ?_
        refine G_aload_n F dL_law_512 rfl ?_
        refine G_iload_n F dL_law_513 rfl ?_
        refine G_iconst F (v := (2 : Int32)) dL_law_514 (by decide) ?_
        refine G_iadd F dL_law_515 ?_
        obtain ⟨v123, e_v123, h⟩ := bnd h
        refine G_xld F hX hbz dL_law_516 e_v123 ?_
        refine G_aload_n F dL_law_517 rfl ?_
        refine G_iload_n F dL_law_518 rfl ?_
        refine G_iconst F (v := (3 : Int32)) dL_law_519 (by decide) ?_
        refine G_iadd F dL_law_520 ?_
        obtain ⟨v124, e_v124, h⟩ := bnd h
        refine G_xld F hX hbz dL_law_521 e_v124 ?_
        obtain ⟨v125, e_v125, h⟩ := bnd h
        obtain ⟨hc_v125, e_v125⟩ := hp_on_of e_v125
        refine G_callVv F (As := [.inl v122, .inl v123, .inl v124]) (st := []) (metX0_stopIs X e_v125) hc_v125 rfl rfl (lw_V q1046 q1047 q1048 q102 q1049) hdfX0_stopIs ⟨by omega, by decide⟩ rfl (Nat.le_of_ble_eq_true rfl) ⟨by omega, by omega⟩ dL_law_522 ?_
        refine G_aload_n F dL_law_525 rfl ?_
        refine G_aload_n F dL_law_526 rfl ?_
        refine G_iload_n F dL_law_527 rfl ?_
        refine G_iconst F (v := (1 : Int32)) dL_law_528 (by decide) ?_
        refine G_iadd F dL_law_529 ?_
        obtain ⟨v126, e_v126, h⟩ := bnd h
        refine G_xld F hX hbz dL_law_530 e_v126 ?_
        refine G_aload_n F dL_law_531 rfl ?_
        refine G_iload_n F dL_law_532 rfl ?_
        refine G_iconst F (v := (2 : Int32)) dL_law_533 (by decide) ?_
        refine G_iadd F dL_law_534 ?_
        obtain ⟨v127, e_v127, h⟩ := bnd h
        refine G_xld F hX hbz dL_law_535 e_v127 ?_
        refine G_aload_n F dL_law_536 rfl ?_
        refine G_iload_n F dL_law_537 rfl ?_
        refine G_iconst F (v := (3 : Int32)) dL_law_538 (by decide) ?_
        refine G_iadd F dL_law_539 ?_
        obtain ⟨v128, e_v128, h⟩ := bnd h
        refine G_xld F hX hbz dL_law_540 e_v128 ?_
        obtain ⟨v129, e_v129, h⟩ := bnd h
        obtain ⟨hc_v129, e_v129⟩ := hp_on_of e_v129
        refine G_callVv F (As := [.inl v126, .inl v127, .inl v128]) (st := [.inl v125]) (metX7_stopIs X e_v129) hc_v129 rfl rfl (lw_V q1651 q1652 q1653 q109 q1654) hdfX7_stopIs ⟨by omega, by decide⟩ rfl (Nat.le_of_ble_eq_true rfl) ⟨by omega, by omega⟩ dL_law_541 ?_
        refine G_icmp_eq F (tgt := 1142) dL_law_544 (by decide) (fun c130 => ?_) (fun c130 => ?_)
        · have h := itt c130 h
          refine G_iinc F (v := (s3_13 + (6 : Int32))) (L2 := [some (.inr (some b)), some (.inr (some (nx))), some (.inr (some (nx + 1 + d4))), some (.inl (s3_13 + (6 : Int32)))]) dL_law_1142 (by decide) rfl rfl rfl ?_
          refine G_goto F (tgt := 18) dL_law_1145 (by decide) ?_
          cases h
          exact G_cnt (G_sub F (L2 := [some (.inr (some b)), some (.inr (some (nx))), some (.inr (some (nx + 1 + d4))), some (.inl (s3_13 + (6 : Int32)))]) ⟨rfl, ⟨rfl, ⟨rfl, ⟨rfl, trivial⟩⟩⟩⟩ (hP13 _ rfl)) (by omega) (by omega) (by omega)
        · have h := itf c130 h
          refine G_iconst F (v := (0 : Int32)) dL_law_547 (by decide) ?_
          cases h
          obtain ⟨q0_, q1_, q2_, q3_⟩ := hE13 _ rfl
          have h := KR13 _ q0_
          exact (lz01 h).elim
      have h := itf c121 h
      by_cases c131 : (v15 &&& (31 : Int32)) = (11 : Int32)
      · have h := itt c131 h
        refine G_tabIn F (tgt := 549) dL_law_33 (by rw [c131]; decide) (by rw [c131]; decide) (by rw [c131]; rfl) (by decide) ?_
        refine G_aload_n F dL_law_549 rfl ?_
        refine G_aload_n F dL_law_550 rfl ?_
        refine G_iload_n F dL_law_551 rfl ?_
        refine G_iconst F (v := (1 : Int32)) dL_law_552 (by decide) ?_
        refine G_iadd F dL_law_553 ?_
        obtain ⟨v132, e_v132, h⟩ := bnd h
        refine G_xld F hX hbz dL_law_554 e_v132 ?_
        refine G_aload_n F dL_law_555 rfl ?_
        refine G_iload_n F dL_law_556 rfl ?_
        refine G_iconst F (v := (2 : Int32)) dL_law_557 (by decide) ?_
        refine G_iadd F dL_law_558 ?_
        obtain ⟨v133, e_v133, h⟩ := bnd h
        refine G_xld F hX hbz dL_law_559 e_v133 ?_
        refine G_aload_n F dL_law_560 rfl ?_
        refine G_iload_n F dL_law_561 rfl ?_
        refine G_iconst F (v := (3 : Int32)) dL_law_562 (by decide) ?_
        refine G_iadd F dL_law_563 ?_
        obtain ⟨v134, e_v134, h⟩ := bnd h
        refine G_xld F hX hbz dL_law_564 e_v134 ?_
        refine G_aload_n F dL_law_565 rfl ?_
        refine G_iload_n F dL_law_566 rfl ?_
        refine G_iconst F (v := (4 : Int32)) dL_law_567 (by decide) ?_
        refine G_iadd F dL_law_568 ?_
        obtain ⟨v135, e_v135, h⟩ := bnd h
        refine G_xld F hX hbz dL_law_569 e_v135 ?_
        obtain ⟨⟨v136, m137⟩, e_v136, h⟩ := bnd h
        obtain ⟨hc_v136, e_v136⟩ := hp_on_of e_v136
        refine G_callVv F (As := [.inl v132, .inl v133, .inl v134, .inl v135]) (st := []) (metX0_earliest X e_v136) hc_v136 rfl rfl (lw_V q1050 q1051 q1052 q102 q1053) hdfX0_earliest ⟨by omega, by decide⟩ rfl (Nat.le_of_ble_eq_true rfl) ⟨by omega, by omega⟩ dL_law_570 ?_
        refine G_aload_n F dL_law_573 rfl ?_
        refine G_aload_n F dL_law_574 rfl ?_
        refine G_iload_n F dL_law_575 rfl ?_
        refine G_iconst F (v := (1 : Int32)) dL_law_576 (by decide) ?_
        refine G_iadd F dL_law_577 ?_
        obtain ⟨v138, e_v138, h⟩ := bnd h
        refine G_xld F hX hbz dL_law_578 e_v138 ?_
        refine G_aload_n F dL_law_579 rfl ?_
        refine G_iload_n F dL_law_580 rfl ?_
        refine G_iconst F (v := (2 : Int32)) dL_law_581 (by decide) ?_
        refine G_iadd F dL_law_582 ?_
        obtain ⟨v139, e_v139, h⟩ := bnd h
        refine G_xld F hX hbz dL_law_583 e_v139 ?_
        refine G_aload_n F dL_law_584 rfl ?_
        refine G_iload_n F dL_law_585 rfl ?_
        refine G_iconst F (v := (3 : Int32)) dL_law_586 (by decide) ?_
        refine G_iadd F dL_law_587 ?_
        obtain ⟨v140, e_v140, h⟩ := bnd h
        refine G_xld F hX hbz dL_law_588 e_v140 ?_
        refine G_aload_n F dL_law_589 rfl ?_
        refine G_iload_n F dL_law_590 rfl ?_
        refine G_iconst F (v := (4 : Int32)) dL_law_591 (by decide) ?_
        refine G_iadd F dL_law_592 ?_
        obtain ⟨v141, e_v141, h⟩ := bnd h
        refine G_xld F hX hbz dL_law_593 e_v141 ?_
        obtain ⟨⟨v142, m143⟩, e_v142, h⟩ := bnd h
        obtain ⟨hc_v142, e_v142⟩ := hp_on_of e_v142
        refine G_callVv F (As := [.inl v138, .inl v139, .inl v140, .inl v141]) (st := [.inl v136]) (metX7_earliest X e_v142) hc_v142 rfl rfl (lw_V q1655 q1656 q1657 q109 q1658) hdfX7_earliest ⟨by omega, by decide⟩ rfl (Nat.le_of_ble_eq_true rfl) ⟨by omega, by omega⟩ dL_law_594 ?_
        refine G_icmp_eq F (tgt := 1142) dL_law_597 (by decide) (fun c144 => ?_) (fun c144 => ?_)
        · have h := itt c144 h
          refine G_iinc F (v := (s3_13 + (6 : Int32))) (L2 := [some (.inr (some b)), some (.inr (some (nx))), some (.inr (some (nx + 1 + d4))), some (.inl (s3_13 + (6 : Int32)))]) dL_law_1142 (by decide) rfl rfl rfl ?_
          refine G_goto F (tgt := 18) dL_law_1145 (by decide) ?_
          cases h
          exact G_cnt (G_sub F (L2 := [some (.inr (some b)), some (.inr (some (nx))), some (.inr (some (nx + 1 + d4))), some (.inl (s3_13 + (6 : Int32)))]) ⟨rfl, ⟨rfl, ⟨rfl, ⟨rfl, trivial⟩⟩⟩⟩ (hP13 _ rfl)) (by omega) (by omega) (by omega)
        · have h := itf c144 h
          refine G_iconst F (v := (0 : Int32)) dL_law_600 (by decide) ?_
          cases h
          obtain ⟨q0_, q1_, q2_, q3_⟩ := hE13 _ rfl
          have h := KR13 _ q0_
          exact (lz01 h).elim
      have h := itf c131 h
      by_cases c145 : (v15 &&& (31 : Int32)) = (12 : Int32)
      · have h := itt c145 h
        refine G_tabIn F (tgt := 602) dL_law_33 (by rw [c145]; decide) (by rw [c145]; decide) (by rw [c145]; rfl) (by decide) ?_
        refine G_aload_n F dL_law_602 rfl ?_
        refine G_aload_n F dL_law_603 rfl ?_
        refine G_iload_n F dL_law_604 rfl ?_
        refine G_iconst F (v := (1 : Int32)) dL_law_605 (by decide) ?_
        refine G_iadd F dL_law_606 ?_
        obtain ⟨v146, e_v146, h⟩ := bnd h
        refine G_xld F hX hbz dL_law_607 e_v146 ?_
        refine G_aload_n F dL_law_608 rfl ?_
        refine G_iload_n F dL_law_609 rfl ?_
        refine G_iconst F (v := (2 : Int32)) dL_law_610 (by decide) ?_
        refine G_iadd F dL_law_611 ?_
        obtain ⟨v147, e_v147, h⟩ := bnd h
        refine G_xld F hX hbz dL_law_612 e_v147 ?_
        refine G_aload_n F dL_law_613 rfl ?_
        refine G_iload_n F dL_law_614 rfl ?_
        refine G_iconst F (v := (3 : Int32)) dL_law_615 (by decide) ?_
        refine G_iadd F dL_law_616 ?_
        obtain ⟨v148, e_v148, h⟩ := bnd h
        refine G_xld F hX hbz dL_law_617 e_v148 ?_
        obtain ⟨⟨v149, m150⟩, e_v149, h⟩ := bnd h
        obtain ⟨hc_v149, e_v149⟩ := hp_on_of e_v149
        refine G_callVv F (As := [.inl v146, .inl v147, .inl v148]) (st := []) (metX0_latest X e_v149) hc_v149 rfl rfl (lw_V q1063 q1064 q1065 q102 q1066) hdfX0_latest ⟨by omega, by decide⟩ rfl (Nat.le_of_ble_eq_true rfl) ⟨by omega, by omega⟩ dL_law_618 ?_
        refine G_aload_n F dL_law_621 rfl ?_
        refine G_aload_n F dL_law_622 rfl ?_
        refine G_iload_n F dL_law_623 rfl ?_
        refine G_iconst F (v := (1 : Int32)) dL_law_624 (by decide) ?_
        refine G_iadd F dL_law_625 ?_
        obtain ⟨v151, e_v151, h⟩ := bnd h
        refine G_xld F hX hbz dL_law_626 e_v151 ?_
        refine G_aload_n F dL_law_627 rfl ?_
        refine G_iload_n F dL_law_628 rfl ?_
        refine G_iconst F (v := (2 : Int32)) dL_law_629 (by decide) ?_
        refine G_iadd F dL_law_630 ?_
        obtain ⟨v152, e_v152, h⟩ := bnd h
        refine G_xld F hX hbz dL_law_631 e_v152 ?_
        refine G_aload_n F dL_law_632 rfl ?_
        refine G_iload_n F dL_law_633 rfl ?_
        refine G_iconst F (v := (3 : Int32)) dL_law_634 (by decide) ?_
        refine G_iadd F dL_law_635 ?_
        obtain ⟨v153, e_v153, h⟩ := bnd h
        refine G_xld F hX hbz dL_law_636 e_v153 ?_
        obtain ⟨⟨v154, m155⟩, e_v154, h⟩ := bnd h
        obtain ⟨hc_v154, e_v154⟩ := hp_on_of e_v154
        refine G_callVv F (As := [.inl v151, .inl v152, .inl v153]) (st := [.inl v149]) (metX7_latest X e_v154) hc_v154 rfl rfl (lw_V q1672 q1673 q1674 q109 q1675) hdfX7_latest ⟨by omega, by decide⟩ rfl (Nat.le_of_ble_eq_true rfl) ⟨by omega, by omega⟩ dL_law_637 ?_
        refine G_icmp_eq F (tgt := 1142) dL_law_640 (by decide) (fun c156 => ?_) (fun c156 => ?_)
        · have h := itt c156 h
          refine G_iinc F (v := (s3_13 + (6 : Int32))) (L2 := [some (.inr (some b)), some (.inr (some (nx))), some (.inr (some (nx + 1 + d4))), some (.inl (s3_13 + (6 : Int32)))]) dL_law_1142 (by decide) rfl rfl rfl ?_
          refine G_goto F (tgt := 18) dL_law_1145 (by decide) ?_
          cases h
          exact G_cnt (G_sub F (L2 := [some (.inr (some b)), some (.inr (some (nx))), some (.inr (some (nx + 1 + d4))), some (.inl (s3_13 + (6 : Int32)))]) ⟨rfl, ⟨rfl, ⟨rfl, ⟨rfl, trivial⟩⟩⟩⟩ (hP13 _ rfl)) (by omega) (by omega) (by omega)
        · have h := itf c156 h
          refine G_iconst F (v := (0 : Int32)) dL_law_643 (by decide) ?_
          cases h
          obtain ⟨q0_, q1_, q2_, q3_⟩ := hE13 _ rfl
          have h := KR13 _ q0_
          exact (lz01 h).elim
      have h := itf c145 h
      by_cases c157 : (v15 &&& (31 : Int32)) = (13 : Int32)
      · have h := itt c157 h
        refine G_tabIn F (tgt := 645) dL_law_33 (by rw [c157]; decide) (by rw [c157]; decide) (by rw [c157]; rfl) (by decide) ?_
        refine G_aload_n F dL_law_645 rfl ?_
        refine G_aload_n F dL_law_646 rfl ?_
        refine G_iload_n F dL_law_647 rfl ?_
        refine G_iconst F (v := (1 : Int32)) dL_law_648 (by decide) ?_
        refine G_iadd F dL_law_649 ?_
        obtain ⟨v158, e_v158, h⟩ := bnd h
        refine G_xld F hX hbz dL_law_650 e_v158 ?_
        refine G_aload_n F dL_law_651 rfl ?_
        refine G_iload_n F dL_law_652 rfl ?_
        refine G_iconst F (v := (2 : Int32)) dL_law_653 (by decide) ?_
        refine G_iadd F dL_law_654 ?_
        obtain ⟨v159, e_v159, h⟩ := bnd h
        refine G_xld F hX hbz dL_law_655 e_v159 ?_
        obtain ⟨⟨v160, m161⟩, e_v160, h⟩ := bnd h
        obtain ⟨hc_v160, e_v160⟩ := hp_on_of e_v160
        refine G_callVv F (As := [.inl v158, .inl v159]) (st := []) (metX0_fastest X e_v160) hc_v160 rfl rfl (lw_V q1080 q1081 q1082 q102 q1083) hdfX0_fastest ⟨by omega, by decide⟩ rfl (Nat.le_of_ble_eq_true rfl) ⟨by omega, by omega⟩ dL_law_656 ?_
        refine G_aload_n F dL_law_659 rfl ?_
        refine G_aload_n F dL_law_660 rfl ?_
        refine G_iload_n F dL_law_661 rfl ?_
        refine G_iconst F (v := (1 : Int32)) dL_law_662 (by decide) ?_
        refine G_iadd F dL_law_663 ?_
        obtain ⟨v162, e_v162, h⟩ := bnd h
        refine G_xld F hX hbz dL_law_664 e_v162 ?_
        refine G_aload_n F dL_law_665 rfl ?_
        refine G_iload_n F dL_law_666 rfl ?_
        refine G_iconst F (v := (2 : Int32)) dL_law_667 (by decide) ?_
        refine G_iadd F dL_law_668 ?_
        obtain ⟨v163, e_v163, h⟩ := bnd h
        refine G_xld F hX hbz dL_law_669 e_v163 ?_
        obtain ⟨⟨v164, m165⟩, e_v164, h⟩ := bnd h
        obtain ⟨hc_v164, e_v164⟩ := hp_on_of e_v164
        refine G_callVv F (As := [.inl v162, .inl v163]) (st := [.inl v160]) (metX7_fastest X e_v164) hc_v164 rfl rfl (lw_V q1680 q1681 q1682 q109 q1683) hdfX7_fastest ⟨by omega, by decide⟩ rfl (Nat.le_of_ble_eq_true rfl) ⟨by omega, by omega⟩ dL_law_670 ?_
        refine G_icmp_eq F (tgt := 1142) dL_law_673 (by decide) (fun c166 => ?_) (fun c166 => ?_)
        · have h := itt c166 h
          refine G_iinc F (v := (s3_13 + (6 : Int32))) (L2 := [some (.inr (some b)), some (.inr (some (nx))), some (.inr (some (nx + 1 + d4))), some (.inl (s3_13 + (6 : Int32)))]) dL_law_1142 (by decide) rfl rfl rfl ?_
          refine G_goto F (tgt := 18) dL_law_1145 (by decide) ?_
          cases h
          exact G_cnt (G_sub F (L2 := [some (.inr (some b)), some (.inr (some (nx))), some (.inr (some (nx + 1 + d4))), some (.inl (s3_13 + (6 : Int32)))]) ⟨rfl, ⟨rfl, ⟨rfl, ⟨rfl, trivial⟩⟩⟩⟩ (hP13 _ rfl)) (by omega) (by omega) (by omega)
        · have h := itf c166 h
          refine G_iconst F (v := (0 : Int32)) dL_law_676 (by decide) ?_
          cases h
          obtain ⟨q0_, q1_, q2_, q3_⟩ := hE13 _ rfl
          have h := KR13 _ q0_
          exact (lz01 h).elim
      have h := itf c157 h
      by_cases c167 : (v15 &&& (31 : Int32)) = (14 : Int32)
      · have h := itt c167 h
        refine G_tabIn F (tgt := 678) dL_law_33 (by rw [c167]; decide) (by rw [c167]; decide) (by rw [c167]; rfl) (by decide) ?_
        refine G_aload_n F dL_law_678 rfl ?_
        refine G_aload_n F dL_law_679 rfl ?_
        refine G_iload_n F dL_law_680 rfl ?_
        refine G_iconst F (v := (1 : Int32)) dL_law_681 (by decide) ?_
        refine G_iadd F dL_law_682 ?_
        obtain ⟨v168, e_v168, h⟩ := bnd h
        refine G_xld F hX hbz dL_law_683 e_v168 ?_
        refine G_aload_n F dL_law_684 rfl ?_
        refine G_iload_n F dL_law_685 rfl ?_
        refine G_iconst F (v := (2 : Int32)) dL_law_686 (by decide) ?_
        refine G_iadd F dL_law_687 ?_
        obtain ⟨v169, e_v169, h⟩ := bnd h
        refine G_xld F hX hbz dL_law_688 e_v169 ?_
        refine G_aload_n F dL_law_689 rfl ?_
        refine G_iload_n F dL_law_690 rfl ?_
        refine G_iconst F (v := (3 : Int32)) dL_law_691 (by decide) ?_
        refine G_iadd F dL_law_692 ?_
        obtain ⟨v170, e_v170, h⟩ := bnd h
        refine G_xld F hX hbz dL_law_693 e_v170 ?_
        obtain ⟨⟨v171, m172⟩, e_v171, h⟩ := bnd h
        obtain ⟨hc_v171, e_v171⟩ := hp_on_of e_v171
        refine G_callVv F (As := [.inl v168, .inl v169, .inl v170]) (st := []) (metX0_best X e_v171) hc_v171 rfl rfl (lw_V q1084 q1085 q1086 q102 q1087) hdfX0_best ⟨by omega, by decide⟩ rfl (Nat.le_of_ble_eq_true rfl) ⟨by omega, by omega⟩ dL_law_694 ?_
        refine G_aload_n F dL_law_697 rfl ?_
        refine G_aload_n F dL_law_698 rfl ?_
        refine G_iload_n F dL_law_699 rfl ?_
        refine G_iconst F (v := (1 : Int32)) dL_law_700 (by decide) ?_
        refine G_iadd F dL_law_701 ?_
        obtain ⟨v173, e_v173, h⟩ := bnd h
        refine G_xld F hX hbz dL_law_702 e_v173 ?_
        refine G_aload_n F dL_law_703 rfl ?_
        refine G_iload_n F dL_law_704 rfl ?_
        refine G_iconst F (v := (2 : Int32)) dL_law_705 (by decide) ?_
        refine G_iadd F dL_law_706 ?_
        obtain ⟨v174, e_v174, h⟩ := bnd h
        refine G_xld F hX hbz dL_law_707 e_v174 ?_
        refine G_aload_n F dL_law_708 rfl ?_
        refine G_iload_n F dL_law_709 rfl ?_
        refine G_iconst F (v := (3 : Int32)) dL_law_710 (by decide) ?_
        refine G_iadd F dL_law_711 ?_
        obtain ⟨v175, e_v175, h⟩ := bnd h
        refine G_xld F hX hbz dL_law_712 e_v175 ?_
        obtain ⟨⟨v176, m177⟩, e_v176, h⟩ := bnd h
        obtain ⟨hc_v176, e_v176⟩ := hp_on_of e_v176
        refine G_callVv F (As := [.inl v173, .inl v174, .inl v175]) (st := [.inl v171]) (metX7_best X e_v176) hc_v176 rfl rfl (lw_V q1688 q1689 q1690 q109 q1691) hdfX7_best ⟨by omega, by decide⟩ rfl (Nat.le_of_ble_eq_true rfl) ⟨by omega, by omega⟩ dL_law_713 ?_
        refine G_icmp_eq F (tgt := 1142) dL_law_716 (by decide) (fun c178 => ?_) (fun c178 => ?_)
        · have h := itt c178 h
          refine G_iinc F (v := (s3_13 + (6 : Int32))) (L2 := [some (.inr (some b)), some (.inr (some (nx))), some (.inr (some (nx + 1 + d4))), some (.inl (s3_13 + (6 : Int32)))]) dL_law_1142 (by decide) rfl rfl rfl ?_
          refine G_goto F (tgt := 18) dL_law_1145 (by decide) ?_
          cases h
          exact G_cnt (G_sub F (L2 := [some (.inr (some b)), some (.inr (some (nx))), some (.inr (some (nx + 1 + d4))), some (.inl (s3_13 + (6 : Int32)))]) ⟨rfl, ⟨rfl, ⟨rfl, ⟨rfl, trivial⟩⟩⟩⟩ (hP13 _ rfl)) (by omega) (by omega) (by omega)
        · have h := itf c178 h
          refine G_iconst F (v := (0 : Int32)) dL_law_719 (by decide) ?_
          cases h
          obtain ⟨q0_, q1_, q2_, q3_⟩ := hE13 _ rfl
          have h := KR13 _ q0_
          exact (lz01 h).elim
      have h := itf c167 h
      by_cases c179 : (v15 &&& (31 : Int32)) = (15 : Int32)
      · have h := itt c179 h
        refine G_tabIn F (tgt := 721) dL_law_33 (by rw [c179]; decide) (by rw [c179]; decide) (by rw [c179]; rfl) (by decide) ?_
        refine G_aload_n F dL_law_721 rfl ?_
        refine G_aload_n F dL_law_722 rfl ?_
        refine G_iload_n F dL_law_723 rfl ?_
        refine G_iconst F (v := (1 : Int32)) dL_law_724 (by decide) ?_
        refine G_iadd F dL_law_725 ?_
        obtain ⟨v180, e_v180, h⟩ := bnd h
        refine G_xld F hX hbz dL_law_726 e_v180 ?_
        refine G_aload_n F dL_law_727 rfl ?_
        refine G_iload_n F dL_law_728 rfl ?_
        refine G_iconst F (v := (2 : Int32)) dL_law_729 (by decide) ?_
        refine G_iadd F dL_law_730 ?_
        obtain ⟨v181, e_v181, h⟩ := bnd h
        refine G_xld F hX hbz dL_law_731 e_v181 ?_
        obtain ⟨⟨v182, m183⟩, e_v182, h⟩ := bnd h
        obtain ⟨hc_v182, e_v182⟩ := hp_on_of e_v182
        refine G_callVv F (As := [.inl v180, .inl v181]) (st := []) (metX0_comeTo X e_v182) hc_v182 rfl rfl (lw_V q1092 q1093 q1094 q102 q1095) hdfX0_comeTo ⟨by omega, by decide⟩ rfl (Nat.le_of_ble_eq_true rfl) ⟨by omega, by omega⟩ dL_law_732 ?_
        refine G_aload_n F dL_law_735 rfl ?_
        refine G_aload_n F dL_law_736 rfl ?_
        refine G_iload_n F dL_law_737 rfl ?_
        refine G_iconst F (v := (1 : Int32)) dL_law_738 (by decide) ?_
        refine G_iadd F dL_law_739 ?_
        obtain ⟨v184, e_v184, h⟩ := bnd h
        refine G_xld F hX hbz dL_law_740 e_v184 ?_
        refine G_aload_n F dL_law_741 rfl ?_
        refine G_iload_n F dL_law_742 rfl ?_
        refine G_iconst F (v := (2 : Int32)) dL_law_743 (by decide) ?_
        refine G_iadd F dL_law_744 ?_
        obtain ⟨v185, e_v185, h⟩ := bnd h
        refine G_xld F hX hbz dL_law_745 e_v185 ?_
        obtain ⟨⟨v186, m187⟩, e_v186, h⟩ := bnd h
        obtain ⟨hc_v186, e_v186⟩ := hp_on_of e_v186
        refine G_callVv F (As := [.inl v184, .inl v185]) (st := [.inl v182]) (metX7_comeTo X e_v186) hc_v186 rfl rfl (lw_V q1696 q1697 q1698 q109 q1699) hdfX7_comeTo ⟨by omega, by decide⟩ rfl (Nat.le_of_ble_eq_true rfl) ⟨by omega, by omega⟩ dL_law_746 ?_
        refine G_icmp_eq F (tgt := 1142) dL_law_749 (by decide) (fun c188 => ?_) (fun c188 => ?_)
        · have h := itt c188 h
          refine G_iinc F (v := (s3_13 + (6 : Int32))) (L2 := [some (.inr (some b)), some (.inr (some (nx))), some (.inr (some (nx + 1 + d4))), some (.inl (s3_13 + (6 : Int32)))]) dL_law_1142 (by decide) rfl rfl rfl ?_
          refine G_goto F (tgt := 18) dL_law_1145 (by decide) ?_
          cases h
          exact G_cnt (G_sub F (L2 := [some (.inr (some b)), some (.inr (some (nx))), some (.inr (some (nx + 1 + d4))), some (.inl (s3_13 + (6 : Int32)))]) ⟨rfl, ⟨rfl, ⟨rfl, ⟨rfl, trivial⟩⟩⟩⟩ (hP13 _ rfl)) (by omega) (by omega) (by omega)
        · have h := itf c188 h
          refine G_iconst F (v := (0 : Int32)) dL_law_752 (by decide) ?_
          cases h
          obtain ⟨q0_, q1_, q2_, q3_⟩ := hE13 _ rfl
          have h := KR13 _ q0_
          exact (lz01 h).elim
      have h := itf c179 h
      by_cases c189 : (v15 &&& (31 : Int32)) = (16 : Int32)
      · have h := itt c189 h
        refine G_tabIn F (tgt := 754) dL_law_33 (by rw [c189]; decide) (by rw [c189]; decide) (by rw [c189]; rfl) (by decide) ?_
        refine G_aload_n F dL_law_754 rfl ?_
        refine G_aload_n F dL_law_755 rfl ?_
        refine G_iload_n F dL_law_756 rfl ?_
        refine G_iconst F (v := (1 : Int32)) dL_law_757 (by decide) ?_
        refine G_iadd F dL_law_758 ?_
        obtain ⟨v190, e_v190, h⟩ := bnd h
        refine G_xld F hX hbz dL_law_759 e_v190 ?_
        refine G_aload_n F dL_law_760 rfl ?_
        refine G_iload_n F dL_law_761 rfl ?_
        refine G_iconst F (v := (2 : Int32)) dL_law_762 (by decide) ?_
        refine G_iadd F dL_law_763 ?_
        obtain ⟨v191, e_v191, h⟩ := bnd h
        refine G_xld F hX hbz dL_law_764 e_v191 ?_
        refine G_aload_n F dL_law_765 rfl ?_
        refine G_iload_n F dL_law_766 rfl ?_
        refine G_iconst F (v := (3 : Int32)) dL_law_767 (by decide) ?_
        refine G_iadd F dL_law_768 ?_
        obtain ⟨v192, e_v192, h⟩ := bnd h
        refine G_xld F hX hbz dL_law_769 e_v192 ?_
        obtain ⟨v193, e_v193, h⟩ := bnd h
        obtain ⟨hc_v193, e_v193⟩ := hp_on_of e_v193
        refine G_callVv F (As := [.inl v190, .inl v191, .inl v192]) (st := []) (metX0_direct X e_v193) hc_v193 rfl rfl (lw_V q1096 q1097 q1098 q102 q1099) hdfX0_direct ⟨by omega, by decide⟩ rfl (Nat.le_of_ble_eq_true rfl) ⟨by omega, by omega⟩ dL_law_770 ?_
        refine G_aload_n F dL_law_773 rfl ?_
        refine G_aload_n F dL_law_774 rfl ?_
        refine G_iload_n F dL_law_775 rfl ?_
        refine G_iconst F (v := (1 : Int32)) dL_law_776 (by decide) ?_
        refine G_iadd F dL_law_777 ?_
        obtain ⟨v194, e_v194, h⟩ := bnd h
        refine G_xld F hX hbz dL_law_778 e_v194 ?_
        refine G_aload_n F dL_law_779 rfl ?_
        refine G_iload_n F dL_law_780 rfl ?_
        refine G_iconst F (v := (2 : Int32)) dL_law_781 (by decide) ?_
        refine G_iadd F dL_law_782 ?_
        obtain ⟨v195, e_v195, h⟩ := bnd h
        refine G_xld F hX hbz dL_law_783 e_v195 ?_
        refine G_aload_n F dL_law_784 rfl ?_
        refine G_iload_n F dL_law_785 rfl ?_
        refine G_iconst F (v := (3 : Int32)) dL_law_786 (by decide) ?_
        refine G_iadd F dL_law_787 ?_
        obtain ⟨v196, e_v196, h⟩ := bnd h
        refine G_xld F hX hbz dL_law_788 e_v196 ?_
        obtain ⟨⟨v197, m198⟩, e_v197, h⟩ := bnd h
        obtain ⟨hc_v197, e_v197⟩ := hp_on_of e_v197
        refine G_callVv F (As := [.inl v194, .inl v195, .inl v196]) (st := [.inl v193]) (metX7_direct X e_v197) hc_v197 rfl rfl (lw_V q1700 q1701 q1702 q109 q1703) hdfX7_direct ⟨by omega, by decide⟩ rfl (Nat.le_of_ble_eq_true rfl) ⟨by omega, by omega⟩ dL_law_789 ?_
        refine G_icmp_eq F (tgt := 1142) dL_law_792 (by decide) (fun c199 => ?_) (fun c199 => ?_)
        · have h := itt c199 h
          refine G_iinc F (v := (s3_13 + (6 : Int32))) (L2 := [some (.inr (some b)), some (.inr (some (nx))), some (.inr (some (nx + 1 + d4))), some (.inl (s3_13 + (6 : Int32)))]) dL_law_1142 (by decide) rfl rfl rfl ?_
          refine G_goto F (tgt := 18) dL_law_1145 (by decide) ?_
          cases h
          exact G_cnt (G_sub F (L2 := [some (.inr (some b)), some (.inr (some (nx))), some (.inr (some (nx + 1 + d4))), some (.inl (s3_13 + (6 : Int32)))]) ⟨rfl, ⟨rfl, ⟨rfl, ⟨rfl, trivial⟩⟩⟩⟩ (hP13 _ rfl)) (by omega) (by omega) (by omega)
        · have h := itf c199 h
          refine G_iconst F (v := (0 : Int32)) dL_law_795 (by decide) ?_
          cases h
          obtain ⟨q0_, q1_, q2_, q3_⟩ := hE13 _ rfl
          have h := KR13 _ q0_
          exact (lz01 h).elim
      have h := itf c189 h
      by_cases c200 : (v15 &&& (31 : Int32)) = (17 : Int32)
      · have h := itt c200 h
        refine G_tabIn F (tgt := 797) dL_law_33 (by rw [c200]; decide) (by rw [c200]; decide) (by rw [c200]; rfl) (by decide) ?_
        refine G_aload_n F dL_law_797 rfl ?_
        refine G_aload_n F dL_law_798 rfl ?_
        refine G_iload_n F dL_law_799 rfl ?_
        refine G_iconst F (v := (1 : Int32)) dL_law_800 (by decide) ?_
        refine G_iadd F dL_law_801 ?_
        obtain ⟨v201, e_v201, h⟩ := bnd h
        refine G_xld F hX hbz dL_law_802 e_v201 ?_
        refine G_aload_n F dL_law_803 rfl ?_
        refine G_iload_n F dL_law_804 rfl ?_
        refine G_iconst F (v := (2 : Int32)) dL_law_805 (by decide) ?_
        refine G_iadd F dL_law_806 ?_
        obtain ⟨v202, e_v202, h⟩ := bnd h
        refine G_xld F hX hbz dL_law_807 e_v202 ?_
        obtain ⟨v203, e_v203, h⟩ := bnd h
        obtain ⟨hc_v203, e_v203⟩ := hp_on_of e_v203
        refine G_callVv F (As := [.inl v201, .inl v202]) (st := []) (metX0_justMissed X e_v203) hc_v203 rfl rfl (lw_V q1104 q1105 q1106 q102 q1107) hdfX0_justMissed ⟨by omega, by decide⟩ rfl (Nat.le_of_ble_eq_true rfl) ⟨by omega, by omega⟩ dL_law_808 ?_
        refine G_aload_n F dL_law_811 rfl ?_
        refine G_aload_n F dL_law_812 rfl ?_
        refine G_iload_n F dL_law_813 rfl ?_
        refine G_iconst F (v := (1 : Int32)) dL_law_814 (by decide) ?_
        refine G_iadd F dL_law_815 ?_
        obtain ⟨v204, e_v204, h⟩ := bnd h
        refine G_xld F hX hbz dL_law_816 e_v204 ?_
        refine G_aload_n F dL_law_817 rfl ?_
        refine G_iload_n F dL_law_818 rfl ?_
        refine G_iconst F (v := (2 : Int32)) dL_law_819 (by decide) ?_
        refine G_iadd F dL_law_820 ?_
        obtain ⟨v205, e_v205, h⟩ := bnd h
        refine G_xld F hX hbz dL_law_821 e_v205 ?_
        obtain ⟨v206, e_v206, h⟩ := bnd h
        obtain ⟨hc_v206, e_v206⟩ := hp_on_of e_v206
        refine G_callVv F (As := [.inl v204, .inl v205]) (st := [.inl v203]) (metX7_justMissed X e_v206) hc_v206 rfl rfl (lw_V q1720 q1721 q1722 q109 q1723) hdfX7_justMissed ⟨by omega, by decide⟩ rfl (Nat.le_of_ble_eq_true rfl) ⟨by omega, by omega⟩ dL_law_822 ?_
        refine G_icmp_eq F (tgt := 1142) dL_law_825 (by decide) (fun c207 => ?_) (fun c207 => ?_)
        · have h := itt c207 h
          refine G_iinc F (v := (s3_13 + (6 : Int32))) (L2 := [some (.inr (some b)), some (.inr (some (nx))), some (.inr (some (nx + 1 + d4))), some (.inl (s3_13 + (6 : Int32)))]) dL_law_1142 (by decide) rfl rfl rfl ?_
          refine G_goto F (tgt := 18) dL_law_1145 (by decide) ?_
          cases h
          exact G_cnt (G_sub F (L2 := [some (.inr (some b)), some (.inr (some (nx))), some (.inr (some (nx + 1 + d4))), some (.inl (s3_13 + (6 : Int32)))]) ⟨rfl, ⟨rfl, ⟨rfl, ⟨rfl, trivial⟩⟩⟩⟩ (hP13 _ rfl)) (by omega) (by omega) (by omega)
        · have h := itf c207 h
          refine G_iconst F (v := (0 : Int32)) dL_law_828 (by decide) ?_
          cases h
          obtain ⟨q0_, q1_, q2_, q3_⟩ := hE13 _ rfl
          have h := KR13 _ q0_
          exact (lz01 h).elim
      have h := itf c200 h
      by_cases c208 : (v15 &&& (31 : Int32)) = (18 : Int32)
      · have h := itt c208 h
        refine G_tabIn F (tgt := 830) dL_law_33 (by rw [c208]; decide) (by rw [c208]; decide) (by rw [c208]; rfl) (by decide) ?_
        refine G_aload_n F dL_law_830 rfl ?_
        refine G_aload_n F dL_law_831 rfl ?_
        refine G_iload_n F dL_law_832 rfl ?_
        refine G_iconst F (v := (1 : Int32)) dL_law_833 (by decide) ?_
        refine G_iadd F dL_law_834 ?_
        obtain ⟨v209, e_v209, h⟩ := bnd h
        refine G_xld F hX hbz dL_law_835 e_v209 ?_
        refine G_aload_n F dL_law_836 rfl ?_
        refine G_iload_n F dL_law_837 rfl ?_
        refine G_iconst F (v := (2 : Int32)) dL_law_838 (by decide) ?_
        refine G_iadd F dL_law_839 ?_
        obtain ⟨v210, e_v210, h⟩ := bnd h
        refine G_xld F hX hbz dL_law_840 e_v210 ?_
        obtain ⟨v211, e_v211, h⟩ := bnd h
        obtain ⟨hc_v211, e_v211⟩ := hp_on_of e_v211
        refine G_callVv F (As := [.inl v209, .inl v210]) (st := []) (metX0_platforms X e_v211) hc_v211 rfl rfl (lw_V q1112 q1113 q1114 q102 q1115) hdfX0_platforms ⟨by omega, by decide⟩ rfl (Nat.le_of_ble_eq_true rfl) ⟨by omega, by omega⟩ dL_law_841 ?_
        refine G_aload_n F dL_law_844 rfl ?_
        refine G_aload_n F dL_law_845 rfl ?_
        refine G_iload_n F dL_law_846 rfl ?_
        refine G_iconst F (v := (1 : Int32)) dL_law_847 (by decide) ?_
        refine G_iadd F dL_law_848 ?_
        obtain ⟨v212, e_v212, h⟩ := bnd h
        refine G_xld F hX hbz dL_law_849 e_v212 ?_
        refine G_aload_n F dL_law_850 rfl ?_
        refine G_iload_n F dL_law_851 rfl ?_
        refine G_iconst F (v := (2 : Int32)) dL_law_852 (by decide) ?_
        refine G_iadd F dL_law_853 ?_
        obtain ⟨v213, e_v213, h⟩ := bnd h
        refine G_xld F hX hbz dL_law_854 e_v213 ?_
        obtain ⟨v214, e_v214, h⟩ := bnd h
        obtain ⟨hc_v214, e_v214⟩ := hp_on_of e_v214
        refine G_callVv F (As := [.inl v212, .inl v213]) (st := [.inl v211]) (metX7_platforms X e_v214) hc_v214 rfl rfl (lw_V q1728 q1729 q1730 q109 q1731) hdfX7_platforms ⟨by omega, by decide⟩ rfl (Nat.le_of_ble_eq_true rfl) ⟨by omega, by omega⟩ dL_law_855 ?_
        refine G_icmp_eq F (tgt := 1142) dL_law_858 (by decide) (fun c215 => ?_) (fun c215 => ?_)
        · have h := itt c215 h
          refine G_iinc F (v := (s3_13 + (6 : Int32))) (L2 := [some (.inr (some b)), some (.inr (some (nx))), some (.inr (some (nx + 1 + d4))), some (.inl (s3_13 + (6 : Int32)))]) dL_law_1142 (by decide) rfl rfl rfl ?_
          refine G_goto F (tgt := 18) dL_law_1145 (by decide) ?_
          cases h
          exact G_cnt (G_sub F (L2 := [some (.inr (some b)), some (.inr (some (nx))), some (.inr (some (nx + 1 + d4))), some (.inl (s3_13 + (6 : Int32)))]) ⟨rfl, ⟨rfl, ⟨rfl, ⟨rfl, trivial⟩⟩⟩⟩ (hP13 _ rfl)) (by omega) (by omega) (by omega)
        · have h := itf c215 h
          refine G_iconst F (v := (0 : Int32)) dL_law_861 (by decide) ?_
          cases h
          obtain ⟨q0_, q1_, q2_, q3_⟩ := hE13 _ rfl
          have h := KR13 _ q0_
          exact (lz01 h).elim
      have h := itf c208 h
      by_cases c216 : (v15 &&& (31 : Int32)) = (19 : Int32)
      · have h := itt c216 h
        refine G_tabIn F (tgt := 863) dL_law_33 (by rw [c216]; decide) (by rw [c216]; decide) (by rw [c216]; rfl) (by decide) ?_
        refine G_aload_n F dL_law_863 rfl ?_
        obtain ⟨⟨v217, m218⟩, e_v217, h⟩ := bnd h
        obtain ⟨hc_v217, e_v217⟩ := hp_on_of e_v217
        refine G_callVv F (As := []) (st := []) (metX0_sets X e_v217) hc_v217 rfl rfl (lw_V q1121 q1122 q1123 q102 q1124) hdfX0_sets ⟨by omega, by decide⟩ rfl (Nat.le_of_ble_eq_true rfl) ⟨by omega, by omega⟩ dL_law_864 ?_
        refine G_aload_n F dL_law_867 rfl ?_
        obtain ⟨⟨v219, m220⟩, e_v219, h⟩ := bnd h
        obtain ⟨hc_v219, e_v219⟩ := hp_on_of e_v219
        refine G_callVv F (As := []) (st := [.inl v217]) (metX7_sets X e_v219) hc_v219 rfl rfl (lw_V q1732 q1733 q1734 q109 q1735) hdfX7_sets ⟨by omega, by decide⟩ rfl (Nat.le_of_ble_eq_true rfl) ⟨by omega, by omega⟩ dL_law_868 ?_
        refine G_icmp_eq F (tgt := 1142) dL_law_871 (by decide) (fun c221 => ?_) (fun c221 => ?_)
        · have h := itt c221 h
          refine G_iinc F (v := (s3_13 + (6 : Int32))) (L2 := [some (.inr (some b)), some (.inr (some (nx))), some (.inr (some (nx + 1 + d4))), some (.inl (s3_13 + (6 : Int32)))]) dL_law_1142 (by decide) rfl rfl rfl ?_
          refine G_goto F (tgt := 18) dL_law_1145 (by decide) ?_
          cases h
          exact G_cnt (G_sub F (L2 := [some (.inr (some b)), some (.inr (some (nx))), some (.inr (some (nx + 1 + d4))), some (.inl (s3_13 + (6 : Int32)))]) ⟨rfl, ⟨rfl, ⟨rfl, ⟨rfl, trivial⟩⟩⟩⟩ (hP13 _ rfl)) (by omega) (by omega) (by omega)
        · have h := itf c221 h
          refine G_iconst F (v := (0 : Int32)) dL_law_874 (by decide) ?_
          cases h
          obtain ⟨q0_, q1_, q2_, q3_⟩ := hE13 _ rfl
          have h := KR13 _ q0_
          exact (lz01 h).elim
      have h := itf c216 h
      by_cases c222 : (v15 &&& (31 : Int32)) = (20 : Int32)
      · have h := itt c222 h
        refine G_tabIn F (tgt := 876) dL_law_33 (by rw [c222]; decide) (by rw [c222]; decide) (by rw [c222]; rfl) (by decide) ?_
        refine G_aload_n F dL_law_876 rfl ?_
        obtain ⟨v223, e_v223, h⟩ := bnd h
        obtain ⟨hc_v223, e_v223⟩ := hp_on_of e_v223
        refine G_callVv F (As := []) (st := []) (metX0_meets X e_v223) hc_v223 rfl rfl (lw_V q1137 q1138 q1139 q102 q1140) hdfX0_meets ⟨by omega, by decide⟩ rfl (Nat.le_of_ble_eq_true rfl) ⟨by omega, by omega⟩ dL_law_877 ?_
        refine G_aload_n F dL_law_880 rfl ?_
        obtain ⟨v224, e_v224, h⟩ := bnd h
        obtain ⟨hc_v224, e_v224⟩ := hp_on_of e_v224
        refine G_callVv F (As := []) (st := [.inl v223]) (metX7_meets X e_v224) hc_v224 rfl rfl (lw_V q1749 q1750 q1751 q109 q1752) hdfX7_meets ⟨by omega, by decide⟩ rfl (Nat.le_of_ble_eq_true rfl) ⟨by omega, by omega⟩ dL_law_881 ?_
        refine G_icmp_eq F (tgt := 1142) dL_law_884 (by decide) (fun c225 => ?_) (fun c225 => ?_)
        · have h := itt c225 h
          refine G_iinc F (v := (s3_13 + (6 : Int32))) (L2 := [some (.inr (some b)), some (.inr (some (nx))), some (.inr (some (nx + 1 + d4))), some (.inl (s3_13 + (6 : Int32)))]) dL_law_1142 (by decide) rfl rfl rfl ?_
          refine G_goto F (tgt := 18) dL_law_1145 (by decide) ?_
          cases h
          exact G_cnt (G_sub F (L2 := [some (.inr (some b)), some (.inr (some (nx))), some (.inr (some (nx + 1 + d4))), some (.inl (s3_13 + (6 : Int32)))]) ⟨rfl, ⟨rfl, ⟨rfl, ⟨rfl, trivial⟩⟩⟩⟩ (hP13 _ rfl)) (by omega) (by omega) (by omega)
        · have h := itf c225 h
          refine G_iconst F (v := (0 : Int32)) dL_law_887 (by decide) ?_
          cases h
          obtain ⟨q0_, q1_, q2_, q3_⟩ := hE13 _ rfl
          have h := KR13 _ q0_
          exact (lz01 h).elim
      have h := itf c222 h
      by_cases c226 : (v15 &&& (31 : Int32)) = (21 : Int32)
      · have h := itt c226 h
        refine G_tabIn F (tgt := 889) dL_law_33 (by rw [c226]; decide) (by rw [c226]; decide) (by rw [c226]; rfl) (by decide) ?_
        refine G_aload_n F dL_law_889 rfl ?_
        refine G_aload_n F dL_law_890 rfl ?_
        refine G_iload_n F dL_law_891 rfl ?_
        refine G_iconst F (v := (1 : Int32)) dL_law_892 (by decide) ?_
        refine G_iadd F dL_law_893 ?_
        obtain ⟨v227, e_v227, h⟩ := bnd h
        refine G_xld F hX hbz dL_law_894 e_v227 ?_
        obtain ⟨⟨v228, m229⟩, e_v228, h⟩ := bnd h
        obtain ⟨hc_v228, e_v228⟩ := hp_on_of e_v228
        refine G_callVv F (As := [.inl v227]) (st := []) (metX0_inspector X e_v228) hc_v228 rfl rfl (lw_V q1145 q1146 q1147 q102 q1148) hdfX0_inspector ⟨by omega, by decide⟩ rfl (Nat.le_of_ble_eq_true rfl) ⟨by omega, by omega⟩ dL_law_895 ?_
        refine G_aload_n F dL_law_898 rfl ?_
        refine G_aload_n F dL_law_899 rfl ?_
        refine G_iload_n F dL_law_900 rfl ?_
        refine G_iconst F (v := (1 : Int32)) dL_law_901 (by decide) ?_
        refine G_iadd F dL_law_902 ?_
        obtain ⟨v230, e_v230, h⟩ := bnd h
        refine G_xld F hX hbz dL_law_903 e_v230 ?_
        obtain ⟨⟨v231, m232⟩, e_v231, h⟩ := bnd h
        obtain ⟨hc_v231, e_v231⟩ := hp_on_of e_v231
        refine G_callVv F (As := [.inl v230]) (st := [.inl v228]) (metX7_inspector X e_v231) hc_v231 rfl rfl (lw_V q1757 q1758 q1759 q109 q1760) hdfX7_inspector ⟨by omega, by decide⟩ rfl (Nat.le_of_ble_eq_true rfl) ⟨by omega, by omega⟩ dL_law_904 ?_
        refine G_icmp_eq F (tgt := 1142) dL_law_907 (by decide) (fun c233 => ?_) (fun c233 => ?_)
        · have h := itt c233 h
          refine G_iinc F (v := (s3_13 + (6 : Int32))) (L2 := [some (.inr (some b)), some (.inr (some (nx))), some (.inr (some (nx + 1 + d4))), some (.inl (s3_13 + (6 : Int32)))]) dL_law_1142 (by decide) rfl rfl rfl ?_
          refine G_goto F (tgt := 18) dL_law_1145 (by decide) ?_
          cases h
          exact G_cnt (G_sub F (L2 := [some (.inr (some b)), some (.inr (some (nx))), some (.inr (some (nx + 1 + d4))), some (.inl (s3_13 + (6 : Int32)))]) ⟨rfl, ⟨rfl, ⟨rfl, ⟨rfl, trivial⟩⟩⟩⟩ (hP13 _ rfl)) (by omega) (by omega) (by omega)
        · have h := itf c233 h
          refine G_iconst F (v := (0 : Int32)) dL_law_910 (by decide) ?_
          cases h
          obtain ⟨q0_, q1_, q2_, q3_⟩ := hE13 _ rfl
          have h := KR13 _ q0_
          exact (lz01 h).elim
      have h := itf c226 h
      by_cases c234 : (v15 &&& (31 : Int32)) = (22 : Int32)
      · have h := itt c234 h
        refine G_tabIn F (tgt := 912) dL_law_33 (by rw [c234]; decide) (by rw [c234]; decide) (by rw [c234]; rfl) (by decide) ?_
        refine G_aload_n F dL_law_912 rfl ?_
        refine G_aload_n F dL_law_913 rfl ?_
        refine G_iload_n F dL_law_914 rfl ?_
        refine G_iconst F (v := (1 : Int32)) dL_law_915 (by decide) ?_
        refine G_iadd F dL_law_916 ?_
        obtain ⟨v235, e_v235, h⟩ := bnd h
        refine G_xld F hX hbz dL_law_917 e_v235 ?_
        obtain ⟨v236, e_v236, h⟩ := bnd h
        obtain ⟨hc_v236, e_v236⟩ := hp_on_of e_v236
        refine G_callVv F (As := [.inl v235]) (st := []) (metX0_longestWait X e_v236) hc_v236 rfl rfl (lw_V q1153 q1154 q1155 q102 q1156) hdfX0_longestWait ⟨by omega, by decide⟩ rfl (Nat.le_of_ble_eq_true rfl) ⟨by omega, by omega⟩ dL_law_918 ?_
        refine G_aload_n F dL_law_921 rfl ?_
        refine G_aload_n F dL_law_922 rfl ?_
        refine G_iload_n F dL_law_923 rfl ?_
        refine G_iconst F (v := (1 : Int32)) dL_law_924 (by decide) ?_
        refine G_iadd F dL_law_925 ?_
        obtain ⟨v237, e_v237, h⟩ := bnd h
        refine G_xld F hX hbz dL_law_926 e_v237 ?_
        obtain ⟨⟨v238, m239⟩, e_v238, h⟩ := bnd h
        obtain ⟨hc_v238, e_v238⟩ := hp_on_of e_v238
        refine G_callVv F (As := [.inl v237]) (st := [.inl v236]) (metX7_longestWait X e_v238) hc_v238 rfl rfl (lw_V q1716 q1717 q1718 q109 q1719) hdfX7_longestWait ⟨by omega, by decide⟩ rfl (Nat.le_of_ble_eq_true rfl) ⟨by omega, by omega⟩ dL_law_927 ?_
        refine G_icmp_eq F (tgt := 1142) dL_law_930 (by decide) (fun c240 => ?_) (fun c240 => ?_)
        · have h := itt c240 h
          refine G_iinc F (v := (s3_13 + (6 : Int32))) (L2 := [some (.inr (some b)), some (.inr (some (nx))), some (.inr (some (nx + 1 + d4))), some (.inl (s3_13 + (6 : Int32)))]) dL_law_1142 (by decide) rfl rfl rfl ?_
          refine G_goto F (tgt := 18) dL_law_1145 (by decide) ?_
          cases h
          exact G_cnt (G_sub F (L2 := [some (.inr (some b)), some (.inr (some (nx))), some (.inr (some (nx + 1 + d4))), some (.inl (s3_13 + (6 : Int32)))]) ⟨rfl, ⟨rfl, ⟨rfl, ⟨rfl, trivial⟩⟩⟩⟩ (hP13 _ rfl)) (by omega) (by omega) (by omega)
        · have h := itf c240 h
          refine G_iconst F (v := (0 : Int32)) dL_law_933 (by decide) ?_
          cases h
          obtain ⟨q0_, q1_, q2_, q3_⟩ := hE13 _ rfl
          have h := KR13 _ q0_
          exact (lz01 h).elim
      have h := itf c234 h
      by_cases c241 : (v15 &&& (31 : Int32)) = (23 : Int32)
      · have h := itt c241 h
        refine G_tabIn F (tgt := 935) dL_law_33 (by rw [c241]; decide) (by rw [c241]; decide) (by rw [c241]; rfl) (by decide) ?_
        refine G_aload_n F dL_law_935 rfl ?_
        refine G_aload_n F dL_law_936 rfl ?_
        refine G_iload_n F dL_law_937 rfl ?_
        refine G_iconst F (v := (1 : Int32)) dL_law_938 (by decide) ?_
        refine G_iadd F dL_law_939 ?_
        obtain ⟨v242, e_v242, h⟩ := bnd h
        refine G_xld F hX hbz dL_law_940 e_v242 ?_
        obtain ⟨v243, e_v243, h⟩ := bnd h
        obtain ⟨hc_v243, e_v243⟩ := hp_on_of e_v243
        refine G_callVv F (As := [.inl v242]) (st := []) (metX0_busiest X e_v243) hc_v243 rfl rfl (lw_V q1157 q1158 q1159 q102 q1160) hdfX0_busiest ⟨by omega, by decide⟩ rfl (Nat.le_of_ble_eq_true rfl) ⟨by omega, by omega⟩ dL_law_941 ?_
        refine G_aload_n F dL_law_944 rfl ?_
        refine G_aload_n F dL_law_945 rfl ?_
        refine G_iload_n F dL_law_946 rfl ?_
        refine G_iconst F (v := (1 : Int32)) dL_law_947 (by decide) ?_
        refine G_iadd F dL_law_948 ?_
        obtain ⟨v244, e_v244, h⟩ := bnd h
        refine G_xld F hX hbz dL_law_949 e_v244 ?_
        obtain ⟨v245, e_v245, h⟩ := bnd h
        obtain ⟨hc_v245, e_v245⟩ := hp_on_of e_v245
        refine G_callVv F (As := [.inl v244]) (st := [.inl v243]) (metX7_busiest X e_v245) hc_v245 rfl rfl (lw_V q1765 q1766 q1767 q109 q1768) hdfX7_busiest ⟨by omega, by decide⟩ rfl (Nat.le_of_ble_eq_true rfl) ⟨by omega, by omega⟩ dL_law_950 ?_
        refine G_icmp_eq F (tgt := 1142) dL_law_953 (by decide) (fun c246 => ?_) (fun c246 => ?_)
        · have h := itt c246 h
          refine G_iinc F (v := (s3_13 + (6 : Int32))) (L2 := [some (.inr (some b)), some (.inr (some (nx))), some (.inr (some (nx + 1 + d4))), some (.inl (s3_13 + (6 : Int32)))]) dL_law_1142 (by decide) rfl rfl rfl ?_
          refine G_goto F (tgt := 18) dL_law_1145 (by decide) ?_
          cases h
          exact G_cnt (G_sub F (L2 := [some (.inr (some b)), some (.inr (some (nx))), some (.inr (some (nx + 1 + d4))), some (.inl (s3_13 + (6 : Int32)))]) ⟨rfl, ⟨rfl, ⟨rfl, ⟨rfl, trivial⟩⟩⟩⟩ (hP13 _ rfl)) (by omega) (by omega) (by omega)
        · have h := itf c246 h
          refine G_iconst F (v := (0 : Int32)) dL_law_956 (by decide) ?_
          cases h
          obtain ⟨q0_, q1_, q2_, q3_⟩ := hE13 _ rfl
          have h := KR13 _ q0_
          exact (lz01 h).elim
      have h := itf c241 h
      by_cases c247 : (v15 &&& (31 : Int32)) = (24 : Int32)
      · have h := itt c247 h
        refine G_tabIn F (tgt := 958) dL_law_33 (by rw [c247]; decide) (by rw [c247]; decide) (by rw [c247]; rfl) (by decide) ?_
        refine G_aload_n F dL_law_958 rfl ?_
        refine G_aload_n F dL_law_959 rfl ?_
        refine G_iload_n F dL_law_960 rfl ?_
        refine G_iconst F (v := (1 : Int32)) dL_law_961 (by decide) ?_
        refine G_iadd F dL_law_962 ?_
        obtain ⟨v248, e_v248, h⟩ := bnd h
        refine G_xld F hX hbz dL_law_963 e_v248 ?_
        obtain ⟨v249, e_v249, h⟩ := bnd h
        obtain ⟨hc_v249, e_v249⟩ := hp_on_of e_v249
        refine G_callVv F (As := [.inl v248]) (st := []) (metX0_onTheWay X e_v249) hc_v249 rfl rfl (lw_V q1165 q1166 q1167 q102 q1168) hdfX0_onTheWay ⟨by omega, by decide⟩ rfl (Nat.le_of_ble_eq_true rfl) ⟨by omega, by omega⟩ dL_law_964 ?_
        refine G_aload_n F dL_law_967 rfl ?_
        refine G_aload_n F dL_law_968 rfl ?_
        refine G_iload_n F dL_law_969 rfl ?_
        refine G_iconst F (v := (1 : Int32)) dL_law_970 (by decide) ?_
        refine G_iadd F dL_law_971 ?_
        obtain ⟨v250, e_v250, h⟩ := bnd h
        refine G_xld F hX hbz dL_law_972 e_v250 ?_
        obtain ⟨v251, e_v251, h⟩ := bnd h
        obtain ⟨hc_v251, e_v251⟩ := hp_on_of e_v251
        refine G_callVv F (As := [.inl v250]) (st := [.inl v249]) (metX7_onTheWay X e_v251) hc_v251 rfl rfl (lw_V q1769 q1770 q1771 q109 q1772) hdfX7_onTheWay ⟨by omega, by decide⟩ rfl (Nat.le_of_ble_eq_true rfl) ⟨by omega, by omega⟩ dL_law_973 ?_
        refine G_icmp_eq F (tgt := 1142) dL_law_976 (by decide) (fun c252 => ?_) (fun c252 => ?_)
        · have h := itt c252 h
          refine G_iinc F (v := (s3_13 + (6 : Int32))) (L2 := [some (.inr (some b)), some (.inr (some (nx))), some (.inr (some (nx + 1 + d4))), some (.inl (s3_13 + (6 : Int32)))]) dL_law_1142 (by decide) rfl rfl rfl ?_
          refine G_goto F (tgt := 18) dL_law_1145 (by decide) ?_
          cases h
          exact G_cnt (G_sub F (L2 := [some (.inr (some b)), some (.inr (some (nx))), some (.inr (some (nx + 1 + d4))), some (.inl (s3_13 + (6 : Int32)))]) ⟨rfl, ⟨rfl, ⟨rfl, ⟨rfl, trivial⟩⟩⟩⟩ (hP13 _ rfl)) (by omega) (by omega) (by omega)
        · have h := itf c252 h
          refine G_iconst F (v := (0 : Int32)) dL_law_979 (by decide) ?_
          cases h
          obtain ⟨q0_, q1_, q2_, q3_⟩ := hE13 _ rfl
          have h := KR13 _ q0_
          exact (lz01 h).elim
      have h := itf c247 h
      by_cases c253 : (v15 &&& (31 : Int32)) = (25 : Int32)
      · have h := itt c253 h
        refine G_tabIn F (tgt := 981) dL_law_33 (by rw [c253]; decide) (by rw [c253]; decide) (by rw [c253]; rfl) (by decide) ?_
        refine G_aload_n F dL_law_981 rfl ?_
        refine G_aload_n F dL_law_982 rfl ?_
        refine G_iload_n F dL_law_983 rfl ?_
        refine G_iconst F (v := (1 : Int32)) dL_law_984 (by decide) ?_
        refine G_iadd F dL_law_985 ?_
        obtain ⟨v254, e_v254, h⟩ := bnd h
        refine G_xld F hX hbz dL_law_986 e_v254 ?_
        refine G_aload_n F dL_law_987 rfl ?_
        refine G_iload_n F dL_law_988 rfl ?_
        refine G_iconst F (v := (2 : Int32)) dL_law_989 (by decide) ?_
        refine G_iadd F dL_law_990 ?_
        obtain ⟨v255, e_v255, h⟩ := bnd h
        refine G_xld F hX hbz dL_law_991 e_v255 ?_
        obtain ⟨v256, e_v256, h⟩ := bnd h
        obtain ⟨hc_v256, e_v256⟩ := hp_on_of e_v256
        refine G_callVv F (As := [.inl v254, .inl v255]) (st := []) (metX0_regular X e_v256) hc_v256 rfl rfl (lw_V q1169 q1170 q1171 q102 q1172) hdfX0_regular ⟨by omega, by decide⟩ rfl (Nat.le_of_ble_eq_true rfl) ⟨by omega, by omega⟩ dL_law_992 ?_
        refine G_aload_n F dL_law_995 rfl ?_
        refine G_aload_n F dL_law_996 rfl ?_
        refine G_iload_n F dL_law_997 rfl ?_
        refine G_iconst F (v := (1 : Int32)) dL_law_998 (by decide) ?_
        refine G_iadd F dL_law_999 ?_
        obtain ⟨v257, e_v257, h⟩ := bnd h
        refine G_xld F hX hbz dL_law_1000 e_v257 ?_
        refine G_aload_n F dL_law_1001 rfl ?_
        refine G_iload_n F dL_law_1002 rfl ?_
        refine G_iconst F (v := (2 : Int32)) dL_law_1003 (by decide) ?_
        refine G_iadd F dL_law_1004 ?_
        obtain ⟨v258, e_v258, h⟩ := bnd h
        refine G_xld F hX hbz dL_law_1005 e_v258 ?_
        obtain ⟨v259, e_v259, h⟩ := bnd h
        obtain ⟨hc_v259, e_v259⟩ := hp_on_of e_v259
        refine G_callVv F (As := [.inl v257, .inl v258]) (st := [.inl v256]) (metX7_regular X e_v259) hc_v259 rfl rfl (lw_V q1773 q1774 q1775 q109 q1776) hdfX7_regular ⟨by omega, by decide⟩ rfl (Nat.le_of_ble_eq_true rfl) ⟨by omega, by omega⟩ dL_law_1006 ?_
        refine G_icmp_eq F (tgt := 1142) dL_law_1009 (by decide) (fun c260 => ?_) (fun c260 => ?_)
        · have h := itt c260 h
          refine G_iinc F (v := (s3_13 + (6 : Int32))) (L2 := [some (.inr (some b)), some (.inr (some (nx))), some (.inr (some (nx + 1 + d4))), some (.inl (s3_13 + (6 : Int32)))]) dL_law_1142 (by decide) rfl rfl rfl ?_
          refine G_goto F (tgt := 18) dL_law_1145 (by decide) ?_
          cases h
          exact G_cnt (G_sub F (L2 := [some (.inr (some b)), some (.inr (some (nx))), some (.inr (some (nx + 1 + d4))), some (.inl (s3_13 + (6 : Int32)))]) ⟨rfl, ⟨rfl, ⟨rfl, ⟨rfl, trivial⟩⟩⟩⟩ (hP13 _ rfl)) (by omega) (by omega) (by omega)
        · have h := itf c260 h
          refine G_iconst F (v := (0 : Int32)) dL_law_1012 (by decide) ?_
          cases h
          obtain ⟨q0_, q1_, q2_, q3_⟩ := hE13 _ rfl
          have h := KR13 _ q0_
          exact (lz01 h).elim
      have h := itf c253 h
      by_cases c261 : (v15 &&& (31 : Int32)) = (26 : Int32)
      · have h := itt c261 h
        refine G_tabIn F (tgt := 1014) dL_law_33 (by rw [c261]; decide) (by rw [c261]; decide) (by rw [c261]; rfl) (by decide) ?_
        refine G_aload_n F dL_law_1014 rfl ?_
        refine G_aload_n F dL_law_1015 rfl ?_
        refine G_iload_n F dL_law_1016 rfl ?_
        refine G_iconst F (v := (1 : Int32)) dL_law_1017 (by decide) ?_
        refine G_iadd F dL_law_1018 ?_
        obtain ⟨v262, e_v262, h⟩ := bnd h
        refine G_xld F hX hbz dL_law_1019 e_v262 ?_
        refine G_aload_n F dL_law_1020 rfl ?_
        refine G_iload_n F dL_law_1021 rfl ?_
        refine G_iconst F (v := (2 : Int32)) dL_law_1022 (by decide) ?_
        refine G_iadd F dL_law_1023 ?_
        obtain ⟨v263, e_v263, h⟩ := bnd h
        refine G_xld F hX hbz dL_law_1024 e_v263 ?_
        obtain ⟨⟨v264, m265⟩, e_v264, h⟩ := bnd h
        obtain ⟨hc_v264, e_v264⟩ := hp_on_of e_v264
        refine G_callVv F (As := [.inl v262, .inl v263]) (st := []) (metX0_fares X e_v264) hc_v264 rfl rfl (lw_V q1177 q1178 q1179 q102 q1180) hdfX0_fares ⟨by omega, by decide⟩ rfl (Nat.le_of_ble_eq_true rfl) ⟨by omega, by omega⟩ dL_law_1025 ?_
        refine G_aload_n F dL_law_1028 rfl ?_
        refine G_aload_n F dL_law_1029 rfl ?_
        refine G_iload_n F dL_law_1030 rfl ?_
        refine G_iconst F (v := (1 : Int32)) dL_law_1031 (by decide) ?_
        refine G_iadd F dL_law_1032 ?_
        obtain ⟨v266, e_v266, h⟩ := bnd h
        refine G_xld F hX hbz dL_law_1033 e_v266 ?_
        refine G_aload_n F dL_law_1034 rfl ?_
        refine G_iload_n F dL_law_1035 rfl ?_
        refine G_iconst F (v := (2 : Int32)) dL_law_1036 (by decide) ?_
        refine G_iadd F dL_law_1037 ?_
        obtain ⟨v267, e_v267, h⟩ := bnd h
        refine G_xld F hX hbz dL_law_1038 e_v267 ?_
        obtain ⟨⟨v268, m269⟩, e_v268, h⟩ := bnd h
        obtain ⟨hc_v268, e_v268⟩ := hp_on_of e_v268
        refine G_callVv F (As := [.inl v266, .inl v267]) (st := [.inl v264]) (metX7_fares X e_v268) hc_v268 rfl rfl (lw_V q1777 q1778 q1779 q109 q1780) hdfX7_fares ⟨by omega, by decide⟩ rfl (Nat.le_of_ble_eq_true rfl) ⟨by omega, by omega⟩ dL_law_1039 ?_
        refine G_icmp_eq F (tgt := 1142) dL_law_1042 (by decide) (fun c270 => ?_) (fun c270 => ?_)
        · have h := itt c270 h
          refine G_iinc F (v := (s3_13 + (6 : Int32))) (L2 := [some (.inr (some b)), some (.inr (some (nx))), some (.inr (some (nx + 1 + d4))), some (.inl (s3_13 + (6 : Int32)))]) dL_law_1142 (by decide) rfl rfl rfl ?_
          refine G_goto F (tgt := 18) dL_law_1145 (by decide) ?_
          cases h
          exact G_cnt (G_sub F (L2 := [some (.inr (some b)), some (.inr (some (nx))), some (.inr (some (nx + 1 + d4))), some (.inl (s3_13 + (6 : Int32)))]) ⟨rfl, ⟨rfl, ⟨rfl, ⟨rfl, trivial⟩⟩⟩⟩ (hP13 _ rfl)) (by omega) (by omega) (by omega)
        · have h := itf c270 h
          refine G_iconst F (v := (0 : Int32)) dL_law_1045 (by decide) ?_
          cases h
          obtain ⟨q0_, q1_, q2_, q3_⟩ := hE13 _ rfl
          have h := KR13 _ q0_
          exact (lz01 h).elim
      have h := itf c261 h
      by_cases c271 : (v15 &&& (31 : Int32)) = (27 : Int32)
      · have h := itt c271 h
        refine G_tabIn F (tgt := 1047) dL_law_33 (by rw [c271]; decide) (by rw [c271]; decide) (by rw [c271]; rfl) (by decide) ?_
        refine G_aload_n F dL_law_1047 rfl ?_
        refine G_aload_n F dL_law_1048 rfl ?_
        refine G_iload_n F dL_law_1049 rfl ?_
        refine G_iconst F (v := (1 : Int32)) dL_law_1050 (by decide) ?_
        refine G_iadd F dL_law_1051 ?_
        obtain ⟨v272, e_v272, h⟩ := bnd h
        refine G_xld F hX hbz dL_law_1052 e_v272 ?_
        obtain ⟨⟨v273, m274⟩, e_v273, h⟩ := bnd h
        obtain ⟨hc_v273, e_v273⟩ := hp_on_of e_v273
        refine G_callVv F (As := [.inl v272]) (st := []) (metX0_seed X e_v273) hc_v273 rfl rfl (lw_V q1185 q1186 q1187 q102 q1188) hdfX0_seed ⟨by omega, by decide⟩ rfl (Nat.le_of_ble_eq_true rfl) ⟨by omega, by omega⟩ dL_law_1053 ?_
        refine G_aload_n F dL_law_1056 rfl ?_
        refine G_aload_n F dL_law_1057 rfl ?_
        refine G_iload_n F dL_law_1058 rfl ?_
        refine G_iconst F (v := (1 : Int32)) dL_law_1059 (by decide) ?_
        refine G_iadd F dL_law_1060 ?_
        obtain ⟨v275, e_v275, h⟩ := bnd h
        refine G_xld F hX hbz dL_law_1061 e_v275 ?_
        obtain ⟨⟨v276, m277⟩, e_v276, h⟩ := bnd h
        obtain ⟨hc_v276, e_v276⟩ := hp_on_of e_v276
        refine G_callVv F (As := [.inl v275]) (st := [.inl v273]) (metX7_seed X e_v276) hc_v276 rfl rfl (lw_V q1789 q1790 q1791 q109 q1792) hdfX7_seed ⟨by omega, by decide⟩ rfl (Nat.le_of_ble_eq_true rfl) ⟨by omega, by omega⟩ dL_law_1062 ?_
        refine G_icmp_eq F (tgt := 1142) dL_law_1065 (by decide) (fun c278 => ?_) (fun c278 => ?_)
        · have h := itt c278 h
          refine G_iinc F (v := (s3_13 + (6 : Int32))) (L2 := [some (.inr (some b)), some (.inr (some (nx))), some (.inr (some (nx + 1 + d4))), some (.inl (s3_13 + (6 : Int32)))]) dL_law_1142 (by decide) rfl rfl rfl ?_
          refine G_goto F (tgt := 18) dL_law_1145 (by decide) ?_
          cases h
          exact G_cnt (G_sub F (L2 := [some (.inr (some b)), some (.inr (some (nx))), some (.inr (some (nx + 1 + d4))), some (.inl (s3_13 + (6 : Int32)))]) ⟨rfl, ⟨rfl, ⟨rfl, ⟨rfl, trivial⟩⟩⟩⟩ (hP13 _ rfl)) (by omega) (by omega) (by omega)
        · have h := itf c278 h
          refine G_iconst F (v := (0 : Int32)) dL_law_1068 (by decide) ?_
          cases h
          obtain ⟨q0_, q1_, q2_, q3_⟩ := hE13 _ rfl
          have h := KR13 _ q0_
          exact (lz01 h).elim
      have h := itf c271 h
      by_cases c279 : (v15 &&& (31 : Int32)) = (28 : Int32)
      · have h := itt c279 h
        refine G_tabIn F (tgt := 1070) dL_law_33 (by rw [c279]; decide) (by rw [c279]; decide) (by rw [c279]; rfl) (by decide) ?_
        refine G_aload_n F dL_law_1070 rfl ?_
        obtain ⟨⟨v280, m281⟩, e_v280, h⟩ := bnd h
        obtain ⟨hc_v280, e_v280⟩ := hp_on_of e_v280
        refine G_callVv F (As := []) (st := []) (metX0_keep X e_v280) hc_v280 rfl rfl (lw_V q1190 q1191 q1192 q102 q1193) hdfX0_keep ⟨by omega, by decide⟩ rfl (Nat.le_of_ble_eq_true rfl) ⟨by omega, by omega⟩ dL_law_1071 ?_
        refine G_aload_n F dL_law_1074 rfl ?_
        obtain ⟨⟨v282, m283⟩, e_v282, h⟩ := bnd h
        obtain ⟨hc_v282, e_v282⟩ := hp_on_of e_v282
        refine G_callVv F (As := []) (st := [.inl v280]) (metX7_keep X e_v282) hc_v282 rfl rfl (lw_V q1794 q1795 q1796 q109 q1797) hdfX7_keep ⟨by omega, by decide⟩ rfl (Nat.le_of_ble_eq_true rfl) ⟨by omega, by omega⟩ dL_law_1075 ?_
        refine G_icmp_eq F (tgt := 1142) dL_law_1078 (by decide) (fun c284 => ?_) (fun c284 => ?_)
        · have h := itt c284 h
          refine G_iinc F (v := (s3_13 + (6 : Int32))) (L2 := [some (.inr (some b)), some (.inr (some (nx))), some (.inr (some (nx + 1 + d4))), some (.inl (s3_13 + (6 : Int32)))]) dL_law_1142 (by decide) rfl rfl rfl ?_
          refine G_goto F (tgt := 18) dL_law_1145 (by decide) ?_
          cases h
          exact G_cnt (G_sub F (L2 := [some (.inr (some b)), some (.inr (some (nx))), some (.inr (some (nx + 1 + d4))), some (.inl (s3_13 + (6 : Int32)))]) ⟨rfl, ⟨rfl, ⟨rfl, ⟨rfl, trivial⟩⟩⟩⟩ (hP13 _ rfl)) (by omega) (by omega) (by omega)
        · have h := itf c284 h
          refine G_iconst F (v := (0 : Int32)) dL_law_1081 (by decide) ?_
          cases h
          obtain ⟨q0_, q1_, q2_, q3_⟩ := hE13 _ rfl
          have h := KR13 _ q0_
          exact (lz01 h).elim
      have h := itf c279 h
      by_cases c285 : (v15 &&& (31 : Int32)) = (29 : Int32)
      · have h := itt c285 h
        refine G_tabIn F (tgt := 1083) dL_law_33 (by rw [c285]; decide) (by rw [c285]; decide) (by rw [c285]; rfl) (by decide) ?_
        refine G_aload_n F dL_law_1083 rfl ?_
        obtain ⟨⟨v286, m287⟩, e_v286, h⟩ := bnd h
        obtain ⟨hc_v286, e_v286⟩ := hp_on_of e_v286
        refine G_callVv F (As := []) (st := []) (metX0_undo X e_v286) hc_v286 rfl rfl (lw_V q1194 q1195 q1196 q102 q1197) hdfX0_undo ⟨by omega, by decide⟩ rfl (Nat.le_of_ble_eq_true rfl) ⟨by omega, by omega⟩ dL_law_1084 ?_
        refine G_aload_n F dL_law_1087 rfl ?_
        obtain ⟨⟨v288, m289⟩, e_v288, h⟩ := bnd h
        obtain ⟨hc_v288, e_v288⟩ := hp_on_of e_v288
        refine G_callVv F (As := []) (st := [.inl v286]) (metX7_undo X e_v288) hc_v288 rfl rfl (lw_V q1798 q1799 q1800 q109 q1801) hdfX7_undo ⟨by omega, by decide⟩ rfl (Nat.le_of_ble_eq_true rfl) ⟨by omega, by omega⟩ dL_law_1088 ?_
        refine G_icmp_eq F (tgt := 1142) dL_law_1091 (by decide) (fun c290 => ?_) (fun c290 => ?_)
        · have h := itt c290 h
          refine G_iinc F (v := (s3_13 + (6 : Int32))) (L2 := [some (.inr (some b)), some (.inr (some (nx))), some (.inr (some (nx + 1 + d4))), some (.inl (s3_13 + (6 : Int32)))]) dL_law_1142 (by decide) rfl rfl rfl ?_
          refine G_goto F (tgt := 18) dL_law_1145 (by decide) ?_
          cases h
          exact G_cnt (G_sub F (L2 := [some (.inr (some b)), some (.inr (some (nx))), some (.inr (some (nx + 1 + d4))), some (.inl (s3_13 + (6 : Int32)))]) ⟨rfl, ⟨rfl, ⟨rfl, ⟨rfl, trivial⟩⟩⟩⟩ (hP13 _ rfl)) (by omega) (by omega) (by omega)
        · have h := itf c290 h
          refine G_iconst F (v := (0 : Int32)) dL_law_1094 (by decide) ?_
          cases h
          obtain ⟨q0_, q1_, q2_, q3_⟩ := hE13 _ rfl
          have h := KR13 _ q0_
          exact (lz01 h).elim
      have h := itf c285 h
      by_cases c291 : (v15 &&& (31 : Int32)) = (30 : Int32)
      · have h := itt c291 h
        refine G_tabIn F (tgt := 1096) dL_law_33 (by rw [c291]; decide) (by rw [c291]; decide) (by rw [c291]; rfl) (by decide) ?_
        refine G_aload_n F dL_law_1096 rfl ?_
        refine G_aload_n F dL_law_1097 rfl ?_
        refine G_iload_n F dL_law_1098 rfl ?_
        refine G_iconst F (v := (1 : Int32)) dL_law_1099 (by decide) ?_
        refine G_iadd F dL_law_1100 ?_
        obtain ⟨v292, e_v292, h⟩ := bnd h
        refine G_xld F hX hbz dL_law_1101 e_v292 ?_
        obtain ⟨⟨v293, m294⟩, e_v293, h⟩ := bnd h
        obtain ⟨hc_v293, e_v293⟩ := hp_on_of e_v293
        refine G_callVv F (As := [.inl v292]) (st := []) (metX0_check X e_v293) hc_v293 rfl rfl (lw_V q1202 q1203 q1204 q102 q1205) hdfX0_check ⟨by omega, by decide⟩ rfl (Nat.le_of_ble_eq_true rfl) ⟨by omega, by omega⟩ dL_law_1102 ?_
        refine G_aload_n F dL_law_1105 rfl ?_
        refine G_aload_n F dL_law_1106 rfl ?_
        refine G_iload_n F dL_law_1107 rfl ?_
        refine G_iconst F (v := (1 : Int32)) dL_law_1108 (by decide) ?_
        refine G_iadd F dL_law_1109 ?_
        obtain ⟨v295, e_v295, h⟩ := bnd h
        refine G_xld F hX hbz dL_law_1110 e_v295 ?_
        obtain ⟨⟨v296, m297⟩, e_v296, h⟩ := bnd h
        obtain ⟨hc_v296, e_v296⟩ := hp_on_of e_v296
        refine G_callVv F (As := [.inl v295]) (st := [.inl v293]) (metX7_check X e_v296) hc_v296 rfl rfl (lw_V q1802 q1803 q1804 q109 q1805) hdfX7_check ⟨by omega, by decide⟩ rfl (Nat.le_of_ble_eq_true rfl) ⟨by omega, by omega⟩ dL_law_1111 ?_
        refine G_icmp_eq F (tgt := 1142) dL_law_1114 (by decide) (fun c298 => ?_) (fun c298 => ?_)
        · have h := itt c298 h
          refine G_iinc F (v := (s3_13 + (6 : Int32))) (L2 := [some (.inr (some b)), some (.inr (some (nx))), some (.inr (some (nx + 1 + d4))), some (.inl (s3_13 + (6 : Int32)))]) dL_law_1142 (by decide) rfl rfl rfl ?_
          refine G_goto F (tgt := 18) dL_law_1145 (by decide) ?_
          cases h
          exact G_cnt (G_sub F (L2 := [some (.inr (some b)), some (.inr (some (nx))), some (.inr (some (nx + 1 + d4))), some (.inl (s3_13 + (6 : Int32)))]) ⟨rfl, ⟨rfl, ⟨rfl, ⟨rfl, trivial⟩⟩⟩⟩ (hP13 _ rfl)) (by omega) (by omega) (by omega)
        · have h := itf c298 h
          refine G_iconst F (v := (0 : Int32)) dL_law_1117 (by decide) ?_
          cases h
          obtain ⟨q0_, q1_, q2_, q3_⟩ := hE13 _ rfl
          have h := KR13 _ q0_
          exact (lz01 h).elim
      have h := itf c291 h
      by_cases c299 : (v15 &&& (31 : Int32)) = (31 : Int32)
      · have h := itt c299 h
        refine G_tabIn F (tgt := 1119) dL_law_33 (by rw [c299]; decide) (by rw [c299]; decide) (by rw [c299]; rfl) (by decide) ?_
        refine G_aload_n F dL_law_1119 rfl ?_
        refine G_aload_n F dL_law_1120 rfl ?_
        refine G_iload_n F dL_law_1121 rfl ?_
        refine G_iconst F (v := (1 : Int32)) dL_law_1122 (by decide) ?_
        refine G_iadd F dL_law_1123 ?_
        obtain ⟨v300, e_v300, h⟩ := bnd h
        refine G_xld F hX hbz dL_law_1124 e_v300 ?_
        obtain ⟨v301, e_v301, h⟩ := bnd h
        obtain ⟨hc_v301, e_v301⟩ := hp_on_of e_v301
        refine G_callVv F (As := [.inl v300]) (st := []) (metX0_count X e_v301) hc_v301 rfl rfl (lw_V q1206 q1207 q1208 q102 q1209) hdfX0_count ⟨by omega, by decide⟩ rfl (Nat.le_of_ble_eq_true rfl) ⟨by omega, by omega⟩ dL_law_1125 ?_
        refine G_aload_n F dL_law_1128 rfl ?_
        refine G_aload_n F dL_law_1129 rfl ?_
        refine G_iload_n F dL_law_1130 rfl ?_
        refine G_iconst F (v := (1 : Int32)) dL_law_1131 (by decide) ?_
        refine G_iadd F dL_law_1132 ?_
        obtain ⟨v302, e_v302, h⟩ := bnd h
        refine G_xld F hX hbz dL_law_1133 e_v302 ?_
        obtain ⟨v303, e_v303, h⟩ := bnd h
        obtain ⟨hc_v303, e_v303⟩ := hp_on_of e_v303
        refine G_callVv F (As := [.inl v302]) (st := [.inl v301]) (metX7_count X e_v303) hc_v303 rfl rfl (lw_V q1806 q1807 q1808 q109 q1809) hdfX7_count ⟨by omega, by decide⟩ rfl (Nat.le_of_ble_eq_true rfl) ⟨by omega, by omega⟩ dL_law_1134 ?_
        refine G_icmp_eq F (tgt := 1142) dL_law_1137 (by decide) (fun c304 => ?_) (fun c304 => ?_)
        · have h := itt c304 h
          refine G_iinc F (v := (s3_13 + (6 : Int32))) (L2 := [some (.inr (some b)), some (.inr (some (nx))), some (.inr (some (nx + 1 + d4))), some (.inl (s3_13 + (6 : Int32)))]) dL_law_1142 (by decide) rfl rfl rfl ?_
          refine G_goto F (tgt := 18) dL_law_1145 (by decide) ?_
          cases h
          exact G_cnt (G_sub F (L2 := [some (.inr (some b)), some (.inr (some (nx))), some (.inr (some (nx + 1 + d4))), some (.inl (s3_13 + (6 : Int32)))]) ⟨rfl, ⟨rfl, ⟨rfl, ⟨rfl, trivial⟩⟩⟩⟩ (hP13 _ rfl)) (by omega) (by omega) (by omega)
        · have h := itf c304 h
          refine G_iconst F (v := (0 : Int32)) dL_law_1140 (by decide) ?_
          cases h
          obtain ⟨q0_, q1_, q2_, q3_⟩ := hE13 _ rfl
          have h := KR13 _ q0_
          exact (lz01 h).elim
      have h := itf c299 h
      refine G_tabDef F (tgt := 1142) dL_law_33 [(0 : Int32), (1 : Int32), (2 : Int32), (3 : Int32), (4 : Int32), (5 : Int32), (6 : Int32), (7 : Int32), (8 : Int32), (9 : Int32), (10 : Int32), (11 : Int32), (12 : Int32), (13 : Int32), (14 : Int32), (15 : Int32), (16 : Int32), (17 : Int32), (18 : Int32), (19 : Int32), (20 : Int32), (21 : Int32), (22 : Int32), (23 : Int32), (24 : Int32), (25 : Int32), (26 : Int32), (27 : Int32), (28 : Int32), (29 : Int32), (30 : Int32), (31 : Int32)] (by decide) (by decide) (List.forall_mem_cons.mpr ⟨c16, List.forall_mem_cons.mpr ⟨c30, List.forall_mem_cons.mpr ⟨c38, List.forall_mem_cons.mpr ⟨c54, List.forall_mem_cons.mpr ⟨c65, List.forall_mem_cons.mpr ⟨c76, List.forall_mem_cons.mpr ⟨c87, List.forall_mem_cons.mpr ⟨c95, List.forall_mem_cons.mpr ⟨c105, List.forall_mem_cons.mpr ⟨c113, List.forall_mem_cons.mpr ⟨c121, List.forall_mem_cons.mpr ⟨c131, List.forall_mem_cons.mpr ⟨c145, List.forall_mem_cons.mpr ⟨c157, List.forall_mem_cons.mpr ⟨c167, List.forall_mem_cons.mpr ⟨c179, List.forall_mem_cons.mpr ⟨c189, List.forall_mem_cons.mpr ⟨c200, List.forall_mem_cons.mpr ⟨c208, List.forall_mem_cons.mpr ⟨c216, List.forall_mem_cons.mpr ⟨c222, List.forall_mem_cons.mpr ⟨c226, List.forall_mem_cons.mpr ⟨c234, List.forall_mem_cons.mpr ⟨c241, List.forall_mem_cons.mpr ⟨c247, List.forall_mem_cons.mpr ⟨c253, List.forall_mem_cons.mpr ⟨c261, List.forall_mem_cons.mpr ⟨c271, List.forall_mem_cons.mpr ⟨c279, List.forall_mem_cons.mpr ⟨c285, List.forall_mem_cons.mpr ⟨c291, List.forall_mem_cons.mpr ⟨c299, fa_nil⟩⟩⟩⟩⟩⟩⟩⟩⟩⟩⟩⟩⟩⟩⟩⟩⟩⟩⟩⟩⟩⟩⟩⟩⟩⟩⟩⟩⟩⟩⟩⟩) (by decide) ?_
      refine G_iinc F (v := (s3_13 + (6 : Int32))) (L2 := [some (.inr (some b)), some (.inr (some (nx))), some (.inr (some (nx + 1 + d4))), some (.inl (s3_13 + (6 : Int32)))]) dL_law_1142 (by decide) rfl rfl rfl ?_
      refine G_goto F (tgt := 18) dL_law_1145 (by decide) ?_
      cases h
      exact G_cnt (G_sub F (L2 := [some (.inr (some b)), some (.inr (some (nx))), some (.inr (some (nx + 1 + d4))), some (.inl (s3_13 + (6 : Int32)))]) ⟨rfl, ⟨rfl, ⟨rfl, ⟨rfl, trivial⟩⟩⟩⟩ (hP13 _ rfl)) (by omega) (by omega) (by omega)
  have hI := iterA_ok dc ds (fun (s : (Int32 × Hp)) nx13 k13 n13 => match s with | (s3_13, m13) => G X cx 4 Q (k13) (n13) m13 (nx13) [some (.inr (some b)), some (.inr (some (nx))), some (.inr (some (nx + 1 + d4))), some (.inl s3_13)] [] 18) (fun q a_ b_ c_ => q = r13 ∧ a_ = nx + 1 + d4 + 1 + d10 + e13 ∧ b_ = 0 + 1 + d4 + 1 + d10 + e13 ∧ c_ = 0 + 22 + c5 + 66 + c11 + f13) KB13 _ _ _ _ _ _ _ _ hr13 (by omega) (by omega) ⟨rfl, rfl, rfl, rfl⟩
  exact G_sub F (L2 := [some (.inr (some b)), some (.inr (some (nx))), some (.inr (some (nx + 1 + d4))), some (.inl (0 : Int32))]) ⟨rfl, ⟨rfl, ⟨rfl, ⟨rfl, trivial⟩⟩⟩⟩ hI
