/-! the classes: their numbers, tables, words -/
abbrev vwCl : List vw_C := [(RX0, TX0, 22), (RX2, TX2, 10), (RX3, TX3, 9), (RX4, TX4, 6), (RX5, TX5, 4), (RX6, TX6, 5), (RX7, TX7, 66), (RX8, TX8, 7), (RX10, TX10, 3), (RX11, TX11, 1), (RX12, TX12, 1), (RX14, TX14, 3), (RX15, TX15, 1), (RX16, TX16, 3), (RX18, TX18, 10), (RX19, TX19, 8)]
def ClOK (ci : Nat) (C : String) (T : u_T) (N : Nat) (ty : Nat → FieldType) : Prop := vwCl[ci]? = some (C, T, N) ∧ (∀ w ∈ u_ws C T N, w ∈ lw_all) ∧ (∀ k, k < N → parseFieldDescriptor (T k).2.2.1 = some (ty k)) ∧ (∀ a, a < N → ∀ b, b < N → a ≠ b → (T a).2.1 ≠ (T b).2.1 ∨ (T a).1 ≠ (T b).1)
theorem okX0 : ClOK 0 RX0 TX0 22 tyX0 := ⟨rfl, in_X0, tyX0_ok, fun a ha b hb h => Or.inl (nmX0 a ha b hb h)⟩
theorem okX2 : ClOK 1 RX2 TX2 10 tyX2 := ⟨rfl, in_X2, tyX2_ok, fun a ha b hb h => Or.inl (nmX2 a ha b hb h)⟩
theorem okX3 : ClOK 2 RX3 TX3 9 tyX3 := ⟨rfl, in_X3, tyX3_ok, fun a ha b hb h => Or.inl (nmX3 a ha b hb h)⟩
theorem okX4 : ClOK 3 RX4 TX4 6 tyX4 := ⟨rfl, in_X4, tyX4_ok, fun a ha b hb h => Or.inl (nmX4 a ha b hb h)⟩
theorem okX5 : ClOK 4 RX5 TX5 4 tyX5 := ⟨rfl, in_X5, tyX5_ok, fun a ha b hb h => Or.inl (nmX5 a ha b hb h)⟩
theorem okX6 : ClOK 5 RX6 TX6 5 tyX6 := ⟨rfl, in_X6, tyX6_ok, fun a ha b hb h => Or.inl (nmX6 a ha b hb h)⟩
theorem okX7 : ClOK 6 RX7 TX7 66 tyX7 := ⟨rfl, in_X7, tyX7_ok, fun a ha b hb h => Or.inl (nmX7 a ha b hb h)⟩
theorem okX8 : ClOK 7 RX8 TX8 7 tyX8 := ⟨rfl, in_X8, tyX8_ok, fun a ha b hb h => Or.inl (nmX8 a ha b hb h)⟩
theorem okX10 : ClOK 8 RX10 TX10 3 tyX10 := ⟨rfl, in_X10, tyX10_ok, fun a ha b hb h => Or.inl (nmX10 a ha b hb h)⟩
theorem okX11 : ClOK 9 RX11 TX11 1 tyX11 := ⟨rfl, in_X11, tyX11_ok, fun a ha b hb h => Or.inl (nmX11 a ha b hb h)⟩
theorem okX12 : ClOK 10 RX12 TX12 1 tyX12 := ⟨rfl, in_X12, tyX12_ok, fun a ha b hb h => Or.inl (nmX12 a ha b hb h)⟩
theorem okX14 : ClOK 11 RX14 TX14 3 tyX14 := ⟨rfl, in_X14, tyX14_ok, fun a ha b hb h => Or.inl (nmX14 a ha b hb h)⟩
theorem okX15 : ClOK 12 RX15 TX15 1 tyX15 := ⟨rfl, in_X15, tyX15_ok, fun a ha b hb h => Or.inl (nmX15 a ha b hb h)⟩
theorem okX16 : ClOK 13 RX16 TX16 3 tyX16 := ⟨rfl, in_X16, tyX16_ok, fun a ha b hb h => Or.inl (nmX16 a ha b hb h)⟩
theorem okX18 : ClOK 14 RX18 TX18 10 tyX18 := ⟨rfl, in_X18, tyX18_ok, by decide +kernel⟩
theorem okX19 : ClOK 15 RX19 TX19 8 tyX19 := ⟨rfl, in_X19, tyX19_ok, by decide +kernel⟩
theorem wd_cast_Row : Cond.castable "MissedTrains$Row" "MissedTrains$Sum" ∈ lw_tbl := q1831
theorem wd_cast_Number : Cond.castable "MissedTrains$Number" "MissedTrains$Sum" ∈ lw_tbl := q1832
theorem wd_cast_Letter : Cond.castable "MissedTrains$Letter" "MissedTrains$Sum" ∈ lw_tbl := q1833
theorem wd_cast_Some : Cond.castable "MissedTrains$Some" "MissedTrains$Condition" ∈ lw_tbl := q1834
theorem wd_cast_Not : Cond.castable "MissedTrains$Not" "MissedTrains$Condition" ∈ lw_tbl := q1835
theorem wd_cast_Compared : Cond.castable "MissedTrains$Compared" "MissedTrains$Condition" ∈ lw_tbl := q1836
/-! THE WALKS' KIT: a judgement over the pure machine's memory, row by row out of the kit's rows -/
set_option linter.unusedVariables false
def tv : Vl → Value
  | .inl x => .int x
  | .inr none => .null
  | .inr (some a) => .ref a
theorem tv_cat (v : Vl) : (tv v).category = 1 := by
  rcases v with x | _ | a <;> rfl
theorem tv_rf (r : Option Nat) : va_rf r = tv (.inr r) := by cases r <;> rfl
/-- launch, classes, array classes, the first address of ours, the heap at the start, the two String constants, their byte arrays -/
abbrev Gx : Type := Launch × va_G × (Nat → ClassId) × Nat × Heap × (Nat → Nat) × (Nat → Nat)
def lenB : List Nat := [9, 3]
def bytB : List (List Int32) := [[114, 115, 107, 108, 110, 112, 102, 121, 117], [100, 99, 109]]
abbrev Cx : Type := Program × Env × Room × State × MethodId × Array Value × List Frame × Method × Code
def trE (X : Gx) : Cel → va_E
  | .inl (t, n, .inl f) => .inl (X.2.2.1 t, n, .inl f)
  | .inl (t, n, .inr f) => .inl (X.2.2.1 t, n, .inr (.inr (.inr (.inr f))))
  | .inr (c, fs) => .inr (c, fs.map tv)
def PH (X : Gx) (m : Hp) (nx : Nat) (H : Heap) : Prop := H.size = nx ∧ X.2.2.2.1 ≤ nx ∧ (∀ a e, m a = some e → X.2.2.2.1 ≤ a ∧ va_at X.2.1 vwCl (a, trE X e) H) ∧ ∀ q : Nat, q < X.2.2.2.1 → H[q]? = X.2.2.2.2.1[q]?
def tysT : Nat → FieldType := fun t => match t with
  | 0 => .int
  | 1 => .byte
  | 2 => .boolean
  | 3 => .object "MissedTrains$Sum"
  | 4 => .object "MissedTrains$Condition"
  | 5 => .object "MissedTrains$Train"
  | 6 => .object "MissedTrains$Person"
  | _ => .array .int
def tysL (X : Gx) : List (ClassId × FieldType) := (List.range 8).map fun t => (X.2.2.1 t, tysT t)
def NW (s : State) : Prop := (∀ a i b n d h, Cond.fieldLinkNest a i b n d h ∈ lw_tbl → va_Nw (.fieldLinkNest a i b n d h) s) ∧ (∀ a i x h, Cond.methodLinkNest a i x h ∈ lw_tbl → va_Nw (.methodLinkNest a i x h) s) ∧ (∀ C T, Cond.castable C T ∈ lw_tbl → va_Nw (.castable C T) s) ∧ (∀ x, Cond.declares x ∈ lw_tbl → va_Nw (.declares x) s) ∧ ∀ ty, Cond.arrayOver ty ∈ lw_tbl → (Cond.arrayOver ty).before #[] s = true
/-- the two String constants of Reader, and String.COMPACT_STRINGS -/
def SK (X : Gx) (s : State) : Prop := vk_S 2 lenB bytB X.2.2.2.2.2.1 X.2.2.2.2.2.2 (fun q => X.2.2.2.1 ≤ q) s X.2.2.2.2.1 ∧ vk_R "MissedTrains$Reader" 75 "rsklnpfyu" (X.2.2.2.2.2.1 0) s ∧ vk_R "MissedTrains$Reader" 129 "dcm" (X.2.2.2.2.2.1 1) s ∧ va_Z "java/lang/String" "COMPACT_STRINGS" "Z" (.int 1) (fun q => X.2.2.2.1 ≤ q) s X.2.2.2.2.1
def KS (X : Gx) (s : State) : Prop := va_K X.2.1 vwCl (tysL X) s ∧ NW s ∧ SK X s
theorem SK.warm {X : Gx} {s U : State} (hW : s.WarmedH U.vm) (h : SK X s) : SK X U := ⟨vk_S.moved hW.alike h.1, vk_R.warm hW h.2.1, vk_R.warm hW h.2.2.1, va_Z.moved hW.alike h.2.2.2⟩
theorem SK.same {X : Gx} {s U : State} (hv : s.vm = U.vm) (h : SK X s) : SK X U := ⟨vk_S.moved (by rw [hv]; exact Vm.Alike.refl _) h.1, vk_R.same hv.symm h.2.1, vk_R.same hv.symm h.2.2.1, va_Z.moved (by rw [hv]; exact Vm.Alike.refl _) h.2.2.2⟩
theorem mt_over {s U : State} {ty : FieldType} (h : s.vm.Alike U.vm) (hb : (Cond.arrayOver ty).before #[] s = true) : (Cond.arrayOver ty).before #[] U = true := by
  have e := Cond.arrayOver_setVmC (args := #[]) h ty
  have e2 : (Cond.arrayOver ty).before #[] (s.setVm U.vm) = (Cond.arrayOver ty).before #[] U := rfl
  rw [← e2, e]
  exact hb
theorem NW.warm {s U : State} (hW : s.WarmedH U.vm) (h : NW s) : NW U :=
  ⟨fun a i b n d g q => va_Nw.warmF hW (h.1 a i b n d g q), fun a i x g q => va_Nw.warmM hW (h.2.1 a i x g q), fun C T q => va_Nw.warmC hW (h.2.2.1 C T q), fun x q => va_Nw.warmD hW (h.2.2.2.1 x q), fun ty q => mt_over hW.alike (h.2.2.2.2 ty q)⟩
theorem KS.warm {X : Gx} {s U : State} (hW : s.WarmedH U.vm) (h : KS X s) : KS X U := ⟨va_K.moved hW.alike h.1, NW.warm hW h.2.1, SK.warm hW h.2.2⟩
theorem NW.same {s U : State} (hv : s.vm = U.vm) (h : NW s) : NW U :=
  ⟨fun a i b n d g q => va_Nw.same rfl hv (h.1 a i b n d g q), fun a i x g q => va_Nw.same rfl hv (h.2.1 a i x g q), fun C T q => va_Nw.same rfl hv (h.2.2.1 C T q), fun x q => va_Nw.same rfl hv (h.2.2.2.1 x q), fun ty q => mt_over (by rw [hv]; exact Vm.Alike.refl _) (h.2.2.2.2 ty q)⟩
theorem KS.calling {X : Gx} {U : State} {g : JFrame} {mk : MethodId} {a : Array Value} (h : KS X U) : KS X (U.calling g mk a) := ⟨va_K.moved (u := U) (U := U.calling g mk a) (Vm.Alike.refl U.vm) h.1, NW.same (s := U) (U := U.calling g mk a) rfl h.2.1, SK.same (s := U) (U := U.calling g mk a) rfl h.2.2⟩
/-! the locals -/
def lz : Nat → List (Option Vl) → List (Nat × Value)
  | _, [] => []
  | i, none :: l => lz (i + 1) l
  | i, some v :: l => (i, tv v) :: lz (i + 1) l
theorem lz_mem {L : List (Option Vl)} : ∀ {i : Nat} {q : Nat × Value}, q ∈ lz i L ↔ ∃ (j : Nat) (v : Vl), L[j]? = some (some v) ∧ q = (i + j, tv v) := by
  induction L with
  | nil => intro i q; simp [lz]
  | cons o l ih =>
    intro i q
    cases o with
    | none =>
      rw [lz, ih]
      constructor
      · rintro ⟨j, v, h1, rfl⟩
        exact ⟨j + 1, v, by rw [List.getElem?_cons_succ]; exact h1, by rw [Nat.add_right_comm, Nat.add_assoc]⟩
      · rintro ⟨j, v, h1, rfl⟩
        cases j with
        | zero => simp at h1
        | succ j => exact ⟨j, v, by rw [List.getElem?_cons_succ] at h1; exact h1, by rw [Nat.add_right_comm, Nat.add_assoc]⟩
    | some w =>
      rw [lz, List.mem_cons, ih]
      constructor
      · rintro (rfl | ⟨j, v, h1, rfl⟩)
        · exact ⟨0, w, rfl, rfl⟩
        · exact ⟨j + 1, v, by rw [List.getElem?_cons_succ]; exact h1, by rw [Nat.add_right_comm, Nat.add_assoc]⟩
      · rintro ⟨j, v, h1, rfl⟩
        cases j with
        | zero => simp at h1; subst h1; exact Or.inl rfl
        | succ j => exact Or.inr ⟨j, v, by rw [List.getElem?_cons_succ] at h1; exact h1, by rw [Nat.add_right_comm, Nat.add_assoc]⟩
def lh (ls : Array Slot) (nL : Nat) (L : List (Option Vl)) : Prop := lv_has ls nL (lz 0 L)
theorem lh.at {ls : Array Slot} {nL : Nat} {L : List (Option Vl)} (h : lh ls nL L) {i : Nat} {v : Vl} (hi : L[i]? = some (some v)) : ls[i]? = some (.val (tv v)) := by
  have h1 := h.2.2 (i, tv v) (lz_mem.mpr ⟨i, v, hi, by rw [Nat.zero_add]⟩)
  exact h1
theorem lh.mono {ls : Array Slot} {nL : Nat} {l : List (Nat × Value)} {L : List (Option Vl)} (h : lv_has ls nL l) (hs : ∀ (j : Nat) (v : Vl), L[j]? = some (some v) → (j, tv v) ∈ l) : lh ls nL L := by
  refine ⟨h.1, h.2.1, fun q hq => ?_⟩
  obtain ⟨j, v, h1, rfl⟩ := lz_mem.mp hq
  rw [Nat.zero_add]
  exact h.2.2 _ (hs j v h1)
/-- a store's list of locals, as the rows have it, gives mine -/
theorem lh.put {ls : Array Slot} {nL i : Nat} {L : List (Option Vl)} {v : Vl} (h : lv_has ls nL ((i, tv v) :: (lz 0 L).filter (fun q => !(q.1 == i) && !(q.1 + 1 == i && q.2.category == 2)))) : lh ls nL (L.set i (some v)) := by
  refine lh.mono h fun j w hj => ?_
  by_cases hji : j = i
  · subst hji
    have hl : j < L.length := by
      have := (List.getElem?_eq_some_iff.mp hj).1
      simpa using this
    rw [List.getElem?_set_self hl] at hj
    cases hj
    exact List.mem_cons_self
  · rw [List.getElem?_set_ne (Ne.symm hji)] at hj
    refine List.mem_cons_of_mem _ (List.mem_filter.mpr ⟨lz_mem.mpr ⟨j, w, hj, by rw [Nat.zero_add]⟩, ?_⟩)
    simp [hji, tv_cat]
/-- fewer locals -/
def lle : List (Option Vl) → List (Option Vl) → Prop
  | [], _ => True
  | none :: a, b => lle a b.tail
  | some x :: a, some y :: b => x = y ∧ lle a b
  | some _ :: _, _ => False
theorem lle_at : ∀ {A B : List (Option Vl)}, lle A B → ∀ (j : Nat) (v : Vl), A[j]? = some (some v) → B[j]? = some (some v)
  | [], _, _, j, v, h => by simp at h
  | none :: a, b, hl, j, v, h => by
    cases j with
    | zero => simp at h
    | succ j =>
      rw [List.getElem?_cons_succ] at h
      have := lle_at (A := a) (B := b.tail) hl j v h
      rw [List.getElem?_tail] at this
      exact this
  | some x :: a, [], hl, j, v, h => hl.elim
  | some x :: a, none :: b, hl, j, v, h => hl.elim
  | some x :: a, some y :: b, hl, j, v, h => by
    obtain ⟨rfl, h2⟩ := hl
    cases j with
    | zero => exact h
    | succ j =>
      rw [List.getElem?_cons_succ] at h ⊢
      exact lle_at h2 j v h
/-! the judgement -/
def G (X : Gx) (cx : Cx) (nL : Nat) (Q : State → Prop) (k n : Nat) (m : Hp) (nx : Nat) (L : List (Option Vl)) (st : List Vl) (pc : Nat) : Prop :=
  ∀ (H : Heap) (locs : List Loc) (ls : Array Slot), PH X m nx H → (∀ q ∈ locs, X.2.2.2.1 ≤ q.base) → lh ls nL L →
    W cx.1 X.1 cx.2.1 cx.2.2.1 cx.2.2.2.1 cx.2.2.2.2.1 cx.2.2.2.2.2.1 cx.2.2.2.2.2.2.1 cx.2.2.2.2.2.2.2.1 cx.2.2.2.2.2.2.2.2 H locs k n Q (F0 cx.2.2.2.2.1 pc ls (st.map tv))
def Fix (X : Gx) (cx : Cx) (own : String) (cc : ByteArray) (nL : Nat) (ret : Option FieldType) (nm : String) (d MC MS : Nat) : Prop :=
  cx.1.tables.exec = Jvm.exec ∧ cx.2.2.2.2.2.2.2.2.code = cc ∧ cx.2.2.2.2.2.2.2.1.sig.returnType = ret ∧ cx.2.2.2.2.2.2.2.1.locks = false ∧ cx.2.2.2.2.2.2.2.2.maxLocals = nL ∧ cx.2.2.2.1.vm.findClass own = some cx.2.2.2.2.1.cls ∧ (∀ w ∈ lw_all, w.before cx.2.2.2.2.2.1 cx.2.2.2.1 = true) ∧ KS X cx.2.2.2.1 ∧ (d ≤ cx.2.2.1.frames ∧ 64 * d ≤ cx.2.2.1.locals ∧ MC ≤ cx.2.2.1.cells ∧ MS ≤ cx.2.2.1.slots) ∧ cx.2.2.2.2.2.2.2.1.name = nm
def Con (X : Gx) (d : Nat) (y : MethodName) (cc : ByteArray) (nL : Nat) (ret : Option FieldType) (args : List Vl) (m : Hp) (nx : Nat) (r : Option Vl) (m' : Hp) (mc ms : Nat) : Prop :=
  Met X.1 y (ws_ y cc nL ret) { frames := d, cells := mc, slots := ms, locals := 64 * d } (va_Pc (args.map tv) (fun U => PH X m nx U.heap ∧ KS X U)) (fun _ _ o t => o = .returned (r.map tv) ∧ PH X m' (nx + mc) t.heap) mc ms (fun q => X.2.2.2.1 ≤ q)
def Qm (X : Gx) (cx : Cx) (r : Option Vl) (m' : Hp) (nx mc ms : Nat) : State → Prop :=
  MQ cx.2.2.2.2.2.2.1 (fun _ _ o t => o = .returned (r.map tv) ∧ PH X m' (nx + mc) t.heap) cx.2.2.2.2.2.1 cx.2.2.2.1 mc ms (fun q => X.2.2.2.1 ≤ q)
theorem lz_args (args : List Vl) : ∀ i, lv_args i (args.map tv) = lz i (args.map some) := by
  induction args with
  | nil => intro i; rfl
  | cons a l ih =>
    intro i
    show (i, tv a) :: lv_args (if (tv a).category = 2 then i + 2 else i + 1) (l.map tv) = (i, tv a) :: lz (i + 1) (l.map some)
    rw [if_neg (by rw [tv_cat]; decide), ih]
theorem sl_len (args : List Vl) : (lg_sl (args.map tv)).length = args.length := by
  induction args with
  | nil => rfl
  | cons a l ih =>
    rcases a with x | _ | x <;> simp [lg_sl, tv, Value.category] at ih ⊢ <;> omega
theorem Con.of {X : Gx} {d : Nat} {y : MethodName} {cc : ByteArray} {nL : Nat} {ret : Option FieldType} {args : List Vl} {m : Hp} {nx : Nat} {r : Option Vl} {m' : Hp} {mc ms : Nat} {own nm : String} {L : List (Option Vl)} (hy : plainName y.cls = true) (ho : y.cls = own) (hn : y.name = nm) (hlen : args.length ≤ nL)
    (hL : ∀ (j : Nat) (v : Vl), L[j]? = some (some v) → args[j]? = some v) (body : ∀ cx : Cx, Fix X cx own cc nL ret nm d mc ms → G X cx nL (Qm X cx r m' nx mc ms) 0 0 m nx L [] 0) : Con X d y cc nL ret args m nx r m' mc ms := by
  refine Met.ofW (cc := cc) (maxL := nL) (ret := ret) hy rfl ?_
  intro p e s mm args' below meth c s₁ B hml hv
  obtain ⟨rfl, hP, hK⟩ := hv
  have hts := atoms_spec (ws := ws_ y cc nL ret) B.pre
  have hts : ∀ w ∈ lw_all, w.before _ s = true := fun w h => hts w (List.mem_cons_of_mem _ h)
  have hl := lv_entry (args.map tv) (n := nL) (by rw [sl_len]; exact hlen)
  rw [lg_entry_eq]
  generalize (lg_sl (args.map tv) ++ List.replicate (nL - (lg_sl (args.map tv)).length) Slot.unset).toArray = ls at hl ⊢
  have hl : lh ls nL L := by
    rw [lz_args] at hl
    refine lh.mono hl fun j v h => ?_
    refine lz_mem.mpr ⟨j, v, ?_, by rw [Nat.zero_add]⟩
    rw [List.getElem?_map, hL j v h]
    rfl
  refine body (p, e, _, s, mm, _, below, meth, c) ⟨B.exec, B.bytes, B.returns, B.notSynchronized, hml, ho ▸ findClass_of_methodNamed B.named, hts, hK, ⟨?_, ?_, ?_, ?_⟩, ?_⟩ s.heap [] ls hP (fun q h => by cases h) hl
  · exact Nat.le_refl _
  · exact Nat.le_refl _
  · exact Nat.le_refl _
  · exact Nat.le_refl _
  · rw [← hn]; exact (name_of_methodNamed B.named B.method).1
section ROWS
variable {X : Gx} {cx : Cx} {own nm : String} {cc : ByteArray} {nL : Nat} {ret : Option FieldType} {d MC MS : Nat} {Q : State → Prop} {k n : Nat} {m : Hp} {nx : Nat} {L : List (Option Vl)} {st : List Vl} {pc : Nat}
theorem G_iconst (F : Fix X cx own cc nL ret nm d MC MS) {c : Int} {v : Int32} (hdg : decode cc pc = .ok (.iconst c, 1)) (hv : Int32.ofInt c = v) (kk : G X cx nL Q k n m nx L (.inl v :: st) (pc + 1)) : G X cx nL Q k n m nx L st pc := fun H locs ls hP hL hl => lv_iconst F.1 F.2.1 hdg hv (kk H locs ls hP hL hl)
theorem G_bipush (F : Fix X cx own cc nL ret nm d MC MS) {c : Int} {v : Int32} (hdg : decode cc pc = .ok (.bipush c, 2)) (hv : (Int8.ofInt c).toInt32 = v) (kk : G X cx nL Q k n m nx L (.inl v :: st) (pc + 2)) : G X cx nL Q k n m nx L st pc := fun H locs ls hP hL hl => lv_bipush F.1 F.2.1 hdg hv (kk H locs ls hP hL hl)
theorem G_sipush (F : Fix X cx own cc nL ret nm d MC MS) {c : Int} {v : Int32} (hdg : decode cc pc = .ok (.sipush c, 3)) (hv : (Int16.ofInt c).toInt32 = v) (kk : G X cx nL Q k n m nx L (.inl v :: st) (pc + 3)) : G X cx nL Q k n m nx L st pc := fun H locs ls hP hL hl => lv_sipush F.1 F.2.1 hdg hv (kk H locs ls hP hL hl)
theorem G_ldc (F : Fix X cx own cc nL ret nm d MC MS) {i : Nat} {v : Int32} (q : Cond.constant own i v ∈ lw_all) (hdg : decode cc pc = .ok (.ldc i, 2)) (kk : G X cx nL Q k n m nx L (.inl v :: st) (pc + 2)) : G X cx nL Q k n m nx L st pc := fun H locs ls hP hL hl => lv_ldc F.1 F.2.1 F.2.2.2.2.2.1 (F.2.2.2.2.2.2.1 _ q) hdg (kk H locs ls hP hL hl)
theorem G_ldcw (F : Fix X cx own cc nL ret nm d MC MS) {i : Nat} {v : Int32} (q : Cond.constant own i v ∈ lw_all) (hdg : decode cc pc = .ok (.ldc_w i, 3)) (kk : G X cx nL Q k n m nx L (.inl v :: st) (pc + 3)) : G X cx nL Q k n m nx L st pc := fun H locs ls hP hL hl => lv_ldcw F.1 F.2.1 F.2.2.2.2.2.1 (F.2.2.2.2.2.2.1 _ q) hdg (kk H locs ls hP hL hl)
theorem G_null (F : Fix X cx own cc nL ret nm d MC MS) (hdg : decode cc pc = .ok (.aconst_null, 1)) (kk : G X cx nL Q k n m nx L (.inr none :: st) (pc + 1)) : G X cx nL Q k n m nx L st pc := fun H locs ls hP hL hl => lv_null F.1 F.2.1 hdg (kk H locs ls hP hL hl)
theorem G_iload_n (F : Fix X cx own cc nL ret nm d MC MS) {j : Fin 4} {x : Int32} (hdg : decode cc pc = .ok (.iload_n j, 1)) (hv : L[(j : Nat)]? = some (some (.inl x))) (kk : G X cx nL Q k n m nx L (.inl x :: st) (pc + 1)) : G X cx nL Q k n m nx L st pc := fun H locs ls hP hL hl => lv_iload_n F.1 F.2.1 hdg rfl (hl.at hv) (kk H locs ls hP hL hl)
theorem G_iload (F : Fix X cx own cc nL ret nm d MC MS) {j : Nat} {x : Int32} (hdg : decode cc pc = .ok (.iload j, 2)) (hv : L[j]? = some (some (.inl x))) (kk : G X cx nL Q k n m nx L (.inl x :: st) (pc + 2)) : G X cx nL Q k n m nx L st pc := fun H locs ls hP hL hl => lv_iload F.1 F.2.1 hdg (hl.at hv) (kk H locs ls hP hL hl)
theorem G_aload_n (F : Fix X cx own cc nL ret nm d MC MS) {j : Fin 4} {x : Option Nat} (hdg : decode cc pc = .ok (.aload_n j, 1)) (hv : L[(j : Nat)]? = some (some (.inr x))) (kk : G X cx nL Q k n m nx L (.inr x :: st) (pc + 1)) : G X cx nL Q k n m nx L st pc := by
  intro H locs ls hP hL hl
  cases x with
  | none => exact lv_aload_nN F.1 F.2.1 hdg rfl (hl.at hv) (kk H locs ls hP hL hl)
  | some a => exact lv_aload_n F.1 F.2.1 hdg rfl (hl.at hv) (kk H locs ls hP hL hl)
theorem G_aload (F : Fix X cx own cc nL ret nm d MC MS) {j : Nat} {x : Option Nat} (hdg : decode cc pc = .ok (.aload j, 2)) (hv : L[j]? = some (some (.inr x))) (kk : G X cx nL Q k n m nx L (.inr x :: st) (pc + 2)) : G X cx nL Q k n m nx L st pc := by
  intro H locs ls hP hL hl
  cases x with
  | none => exact lv_aloadN F.1 F.2.1 hdg (hl.at hv) (kk H locs ls hP hL hl)
  | some a => exact lv_aload F.1 F.2.1 hdg (hl.at hv) (kk H locs ls hP hL hl)
theorem G_istore_n (F : Fix X cx own cc nL ret nm d MC MS) {j : Fin 4} {x : Int32} {L2 : List (Option Vl)} (hdg : decode cc pc = .ok (.istore_n j, 1)) (hj : (j : Nat) < nL) (hL2 : L.set (j : Nat) (some (.inl x)) = L2) (kk : G X cx nL Q k n m nx L2 st (pc + 1)) : G X cx nL Q k n m nx L (.inl x :: st) pc := by
  intro H locs ls hP hL hl
  subst hL2
  exact lv_istore_n F.1 F.2.1 hdg rfl hl hj rfl (fun ls' h => kk H locs ls' hP hL (lh.put (v := .inl x) h))
theorem G_istore (F : Fix X cx own cc nL ret nm d MC MS) {j : Nat} {x : Int32} {L2 : List (Option Vl)} (hdg : decode cc pc = .ok (.istore j, 2)) (hj : j < nL) (hL2 : L.set j (some (.inl x)) = L2) (kk : G X cx nL Q k n m nx L2 st (pc + 2)) : G X cx nL Q k n m nx L (.inl x :: st) pc := by
  intro H locs ls hP hL hl
  subst hL2
  exact lv_istore F.1 F.2.1 hdg hl hj rfl (fun ls' h => kk H locs ls' hP hL (lh.put (v := .inl x) h))
theorem G_astore_n (F : Fix X cx own cc nL ret nm d MC MS) {j : Fin 4} {x : Option Nat} {L2 : List (Option Vl)} (hdg : decode cc pc = .ok (.astore_n j, 1)) (hj : (j : Nat) < nL) (hL2 : L.set (j : Nat) (some (.inr x)) = L2) (kk : G X cx nL Q k n m nx L2 st (pc + 1)) : G X cx nL Q k n m nx L (.inr x :: st) pc := by
  intro H locs ls hP hL hl
  subst hL2
  cases x with
  | none => exact lv_astore_nN F.1 F.2.1 hdg rfl hl hj rfl (fun ls' h => kk H locs ls' hP hL (lh.put (v := .inr none) h))
  | some a => exact lv_astore_n F.1 F.2.1 hdg rfl hl hj rfl (fun ls' h => kk H locs ls' hP hL (lh.put (v := .inr (some a)) h))
theorem G_astore (F : Fix X cx own cc nL ret nm d MC MS) {j : Nat} {x : Option Nat} {L2 : List (Option Vl)} (hdg : decode cc pc = .ok (.astore j, 2)) (hj : j < nL) (hL2 : L.set j (some (.inr x)) = L2) (kk : G X cx nL Q k n m nx L2 st (pc + 2)) : G X cx nL Q k n m nx L (.inr x :: st) pc := by
  intro H locs ls hP hL hl
  subst hL2
  cases x with
  | none => exact lv_astoreN F.1 F.2.1 hdg hl hj rfl (fun ls' h => kk H locs ls' hP hL (lh.put (v := .inr none) h))
  | some a => exact lv_astore F.1 F.2.1 hdg hl hj rfl (fun ls' h => kk H locs ls' hP hL (lh.put (v := .inr (some a)) h))
theorem G_iinc (F : Fix X cx own cc nL ret nm d MC MS) {j : Nat} {c : Int} {x v : Int32} {L2 : List (Option Vl)} (hdg : decode cc pc = .ok (.iinc j c, 3)) (hj : j < nL) (hx : L[j]? = some (some (.inl x))) (hv : x + Int32.ofInt c = v) (hL2 : L.set j (some (.inl v)) = L2) (kk : G X cx nL Q k n m nx L2 st (pc + 3)) : G X cx nL Q k n m nx L st pc := by
  intro H locs ls hP hL hl
  subst hL2
  have hm : (j, Value.int x) ∈ lz 0 L := lz_mem.mpr ⟨j, .inl x, hx, by rw [Nat.zero_add]; rfl⟩
  obtain ⟨i, hi⟩ := List.getElem?_of_mem hm
  exact lv_iinc F.1 F.2.1 hdg hl hi hv hj rfl (fun ls' h => kk H locs ls' hP hL (lh.put (v := .inl v) h))
theorem G_iadd (F : Fix X cx own cc nL ret nm d MC MS) {x y : Int32} (hdg : decode cc pc = .ok (.iadd, 1)) (kk : G X cx nL Q k n m nx L (.inl (x + y) :: st) (pc + 1)) : G X cx nL Q k n m nx L (.inl y :: .inl x :: st) pc := fun H locs ls hP hL hl => lv_iadd F.1 F.2.1 hdg (kk H locs ls hP hL hl)
theorem G_isub (F : Fix X cx own cc nL ret nm d MC MS) {x y : Int32} (hdg : decode cc pc = .ok (.isub, 1)) (kk : G X cx nL Q k n m nx L (.inl (x - y) :: st) (pc + 1)) : G X cx nL Q k n m nx L (.inl y :: .inl x :: st) pc := fun H locs ls hP hL hl => lv_isub F.1 F.2.1 hdg (kk H locs ls hP hL hl)
theorem G_imul (F : Fix X cx own cc nL ret nm d MC MS) {x y : Int32} (hdg : decode cc pc = .ok (.imul, 1)) (kk : G X cx nL Q k n m nx L (.inl (x * y) :: st) (pc + 1)) : G X cx nL Q k n m nx L (.inl y :: .inl x :: st) pc := fun H locs ls hP hL hl => lv_imul F.1 F.2.1 hdg (kk H locs ls hP hL hl)
theorem G_iand (F : Fix X cx own cc nL ret nm d MC MS) {x y : Int32} (hdg : decode cc pc = .ok (.iand, 1)) (kk : G X cx nL Q k n m nx L (.inl (x &&& y) :: st) (pc + 1)) : G X cx nL Q k n m nx L (.inl y :: .inl x :: st) pc := fun H locs ls hP hL hl => lv_iand F.1 F.2.1 hdg (kk H locs ls hP hL hl)
theorem G_ior (F : Fix X cx own cc nL ret nm d MC MS) {x y : Int32} (hdg : decode cc pc = .ok (.ior, 1)) (kk : G X cx nL Q k n m nx L (.inl (x ||| y) :: st) (pc + 1)) : G X cx nL Q k n m nx L (.inl y :: .inl x :: st) pc := fun H locs ls hP hL hl => lv_ior F.1 F.2.1 hdg (kk H locs ls hP hL hl)
theorem G_ishl (F : Fix X cx own cc nL ret nm d MC MS) {x y : Int32} (hdg : decode cc pc = .ok (.ishl, 1)) (kk : G X cx nL Q k n m nx L (.inl (jshl x y) :: st) (pc + 1)) : G X cx nL Q k n m nx L (.inl y :: .inl x :: st) pc := fun H locs ls hP hL hl => lv_ishl F.1 F.2.1 hdg (kk H locs ls hP hL hl)
theorem G_ishr (F : Fix X cx own cc nL ret nm d MC MS) {x y : Int32} (hdg : decode cc pc = .ok (.ishr, 1)) (kk : G X cx nL Q k n m nx L (.inl (jshr x y) :: st) (pc + 1)) : G X cx nL Q k n m nx L (.inl y :: .inl x :: st) pc := fun H locs ls hP hL hl => lv_ishr F.1 F.2.1 hdg (kk H locs ls hP hL hl)
theorem G_idiv (F : Fix X cx own cc nL ret nm d MC MS) {x y : Int32} (hne : ¬ y = 0) (hdg : decode cc pc = .ok (.idiv, 1)) (kk : G X cx nL Q k n m nx L (.inl (x / y) :: st) (pc + 1)) : G X cx nL Q k n m nx L (.inl y :: .inl x :: st) pc := fun H locs ls hP hL hl => lv_idiv F.1 F.2.1 hdg hne (kk H locs ls hP hL hl)
theorem G_irem (F : Fix X cx own cc nL ret nm d MC MS) {x y : Int32} (hne : ¬ y = 0) (hdg : decode cc pc = .ok (.irem, 1)) (kk : G X cx nL Q k n m nx L (.inl (jrem x y) :: st) (pc + 1)) : G X cx nL Q k n m nx L (.inl y :: .inl x :: st) pc := fun H locs ls hP hL hl => lv_irem F.1 F.2.1 hdg hne (kk H locs ls hP hL hl)
theorem G_ineg (F : Fix X cx own cc nL ret nm d MC MS) {x : Int32} (hdg : decode cc pc = .ok (.ineg, 1)) (kk : G X cx nL Q k n m nx L (.inl (-x) :: st) (pc + 1)) : G X cx nL Q k n m nx L (.inl x :: st) pc := fun H locs ls hP hL hl => lv_ineg F.1 F.2.1 hdg (kk H locs ls hP hL hl)
theorem G_i2b (F : Fix X cx own cc nL ret nm d MC MS) {x : Int32} (hdg : decode cc pc = .ok (.i2b, 1)) (kk : G X cx nL Q k n m nx L (.inl (j2b x) :: st) (pc + 1)) : G X cx nL Q k n m nx L (.inl x :: st) pc := fun H locs ls hP hL hl => lv_i2b F.1 F.2.1 hdg rfl (kk H locs ls hP hL hl)
theorem G_dup (F : Fix X cx own cc nL ret nm d MC MS) {v : Vl} (hdg : decode cc pc = .ok (.dup, 1)) (kk : G X cx nL Q k n m nx L (v :: v :: st) (pc + 1)) : G X cx nL Q k n m nx L (v :: st) pc := fun H locs ls hP hL hl => lv_dup F.1 F.2.1 hdg (tv_cat v) (kk H locs ls hP hL hl)
theorem G_pop (F : Fix X cx own cc nL ret nm d MC MS) {v : Vl} (hdg : decode cc pc = .ok (.pop, 1)) (kk : G X cx nL Q k n m nx L st (pc + 1)) : G X cx nL Q k n m nx L (v :: st) pc := fun H locs ls hP hL hl => lv_pop F.1 F.2.1 hdg (tv_cat v) (kk H locs ls hP hL hl)
theorem G_if_eq (F : Fix X cx own cc nL ret nm d MC MS) {x : Int32} {off : Int} {tgt : Nat} (hdg : decode cc pc = .ok (.ifCond .eq off, 3)) (ht : (pc : Int) + off = (tgt : Int)) (kt : x = 0 → G X cx nL Q k n m nx L st tgt) (kf : ¬ x = 0 → G X cx nL Q k n m nx L st (pc + 3)) : G X cx nL Q k n m nx L (.inl x :: st) pc := fun H locs ls hP hL hl => lv_if_eq F.1 F.2.1 hdg ht (fun c => kt c H locs ls hP hL hl) (fun c => kf c H locs ls hP hL hl)
theorem G_icmp_eq (F : Fix X cx own cc nL ret nm d MC MS) {x y : Int32} {off : Int} {tgt : Nat} (hdg : decode cc pc = .ok (.if_icmp .eq off, 3)) (ht : (pc : Int) + off = (tgt : Int)) (kt : x = y → G X cx nL Q k n m nx L st tgt) (kf : ¬ x = y → G X cx nL Q k n m nx L st (pc + 3)) : G X cx nL Q k n m nx L (.inl y :: .inl x :: st) pc := fun H locs ls hP hL hl => lv_icmp_eq F.1 F.2.1 hdg ht (fun c => kt c H locs ls hP hL hl) (fun c => kf c H locs ls hP hL hl)
theorem G_if_ne (F : Fix X cx own cc nL ret nm d MC MS) {x : Int32} {off : Int} {tgt : Nat} (hdg : decode cc pc = .ok (.ifCond .ne off, 3)) (ht : (pc : Int) + off = (tgt : Int)) (kt : ¬ x = 0 → G X cx nL Q k n m nx L st tgt) (kf : x = 0 → G X cx nL Q k n m nx L st (pc + 3)) : G X cx nL Q k n m nx L (.inl x :: st) pc := fun H locs ls hP hL hl => lv_if_ne F.1 F.2.1 hdg ht (fun c => kt c H locs ls hP hL hl) (fun c => kf c H locs ls hP hL hl)
theorem G_icmp_ne (F : Fix X cx own cc nL ret nm d MC MS) {x y : Int32} {off : Int} {tgt : Nat} (hdg : decode cc pc = .ok (.if_icmp .ne off, 3)) (ht : (pc : Int) + off = (tgt : Int)) (kt : ¬ x = y → G X cx nL Q k n m nx L st tgt) (kf : x = y → G X cx nL Q k n m nx L st (pc + 3)) : G X cx nL Q k n m nx L (.inl y :: .inl x :: st) pc := fun H locs ls hP hL hl => lv_icmp_ne F.1 F.2.1 hdg ht (fun c => kt c H locs ls hP hL hl) (fun c => kf c H locs ls hP hL hl)
theorem G_if_lt (F : Fix X cx own cc nL ret nm d MC MS) {x : Int32} {off : Int} {tgt : Nat} (hdg : decode cc pc = .ok (.ifCond .lt off, 3)) (ht : (pc : Int) + off = (tgt : Int)) (kt : x < 0 → G X cx nL Q k n m nx L st tgt) (kf : ¬ x < 0 → G X cx nL Q k n m nx L st (pc + 3)) : G X cx nL Q k n m nx L (.inl x :: st) pc := fun H locs ls hP hL hl => lv_if_lt F.1 F.2.1 hdg ht (fun c => kt c H locs ls hP hL hl) (fun c => kf c H locs ls hP hL hl)
theorem G_icmp_lt (F : Fix X cx own cc nL ret nm d MC MS) {x y : Int32} {off : Int} {tgt : Nat} (hdg : decode cc pc = .ok (.if_icmp .lt off, 3)) (ht : (pc : Int) + off = (tgt : Int)) (kt : x < y → G X cx nL Q k n m nx L st tgt) (kf : ¬ x < y → G X cx nL Q k n m nx L st (pc + 3)) : G X cx nL Q k n m nx L (.inl y :: .inl x :: st) pc := fun H locs ls hP hL hl => lv_icmp_lt F.1 F.2.1 hdg ht (fun c => kt c H locs ls hP hL hl) (fun c => kf c H locs ls hP hL hl)
theorem G_if_ge (F : Fix X cx own cc nL ret nm d MC MS) {x : Int32} {off : Int} {tgt : Nat} (hdg : decode cc pc = .ok (.ifCond .ge off, 3)) (ht : (pc : Int) + off = (tgt : Int)) (kt : 0 ≤ x → G X cx nL Q k n m nx L st tgt) (kf : ¬ 0 ≤ x → G X cx nL Q k n m nx L st (pc + 3)) : G X cx nL Q k n m nx L (.inl x :: st) pc := fun H locs ls hP hL hl => lv_if_ge F.1 F.2.1 hdg ht (fun c => kt c H locs ls hP hL hl) (fun c => kf c H locs ls hP hL hl)
theorem G_icmp_ge (F : Fix X cx own cc nL ret nm d MC MS) {x y : Int32} {off : Int} {tgt : Nat} (hdg : decode cc pc = .ok (.if_icmp .ge off, 3)) (ht : (pc : Int) + off = (tgt : Int)) (kt : y ≤ x → G X cx nL Q k n m nx L st tgt) (kf : ¬ y ≤ x → G X cx nL Q k n m nx L st (pc + 3)) : G X cx nL Q k n m nx L (.inl y :: .inl x :: st) pc := fun H locs ls hP hL hl => lv_icmp_ge F.1 F.2.1 hdg ht (fun c => kt c H locs ls hP hL hl) (fun c => kf c H locs ls hP hL hl)
theorem G_if_gt (F : Fix X cx own cc nL ret nm d MC MS) {x : Int32} {off : Int} {tgt : Nat} (hdg : decode cc pc = .ok (.ifCond .gt off, 3)) (ht : (pc : Int) + off = (tgt : Int)) (kt : 0 < x → G X cx nL Q k n m nx L st tgt) (kf : ¬ 0 < x → G X cx nL Q k n m nx L st (pc + 3)) : G X cx nL Q k n m nx L (.inl x :: st) pc := fun H locs ls hP hL hl => lv_if_gt F.1 F.2.1 hdg ht (fun c => kt c H locs ls hP hL hl) (fun c => kf c H locs ls hP hL hl)
theorem G_icmp_gt (F : Fix X cx own cc nL ret nm d MC MS) {x y : Int32} {off : Int} {tgt : Nat} (hdg : decode cc pc = .ok (.if_icmp .gt off, 3)) (ht : (pc : Int) + off = (tgt : Int)) (kt : y < x → G X cx nL Q k n m nx L st tgt) (kf : ¬ y < x → G X cx nL Q k n m nx L st (pc + 3)) : G X cx nL Q k n m nx L (.inl y :: .inl x :: st) pc := fun H locs ls hP hL hl => lv_icmp_gt F.1 F.2.1 hdg ht (fun c => kt c H locs ls hP hL hl) (fun c => kf c H locs ls hP hL hl)
theorem G_if_le (F : Fix X cx own cc nL ret nm d MC MS) {x : Int32} {off : Int} {tgt : Nat} (hdg : decode cc pc = .ok (.ifCond .le off, 3)) (ht : (pc : Int) + off = (tgt : Int)) (kt : x ≤ 0 → G X cx nL Q k n m nx L st tgt) (kf : ¬ x ≤ 0 → G X cx nL Q k n m nx L st (pc + 3)) : G X cx nL Q k n m nx L (.inl x :: st) pc := fun H locs ls hP hL hl => lv_if_le F.1 F.2.1 hdg ht (fun c => kt c H locs ls hP hL hl) (fun c => kf c H locs ls hP hL hl)
theorem G_icmp_le (F : Fix X cx own cc nL ret nm d MC MS) {x y : Int32} {off : Int} {tgt : Nat} (hdg : decode cc pc = .ok (.if_icmp .le off, 3)) (ht : (pc : Int) + off = (tgt : Int)) (kt : x ≤ y → G X cx nL Q k n m nx L st tgt) (kf : ¬ x ≤ y → G X cx nL Q k n m nx L st (pc + 3)) : G X cx nL Q k n m nx L (.inl y :: .inl x :: st) pc := fun H locs ls hP hL hl => lv_icmp_le F.1 F.2.1 hdg ht (fun c => kt c H locs ls hP hL hl) (fun c => kf c H locs ls hP hL hl)
theorem G_goto (F : Fix X cx own cc nL ret nm d MC MS) {off : Int} {tgt : Nat} (hdg : decode cc pc = .ok (.goto off, 3)) (ht : (pc : Int) + off = (tgt : Int)) (kk : G X cx nL Q k n m nx L st tgt) : G X cx nL Q k n m nx L st pc := fun H locs ls hP hL hl => lv_goto F.1 F.2.1 hdg ht (kk H locs ls hP hL hl)
theorem G_ifnull (F : Fix X cx own cc nL ret nm d MC MS) {x : Option Nat} {off : Int} {tgt : Nat} (hdg : decode cc pc = .ok (.ifnull off, 3)) (ht : (pc : Int) + off = (tgt : Int)) (kt : x = none → G X cx nL Q k n m nx L st tgt) (kf : ¬ x = none → G X cx nL Q k n m nx L st (pc + 3)) : G X cx nL Q k n m nx L (.inr x :: st) pc := by
  intro H locs ls hP hL hl
  cases x with
  | none => exact lv_ifnullN F.1 F.2.1 hdg ht (kt rfl H locs ls hP hL hl)
  | some a => exact lv_ifnull F.1 F.2.1 hdg (kf (fun h => by cases h) H locs ls hP hL hl)
theorem G_ifnonnull (F : Fix X cx own cc nL ret nm d MC MS) {x : Option Nat} {off : Int} {tgt : Nat} (hdg : decode cc pc = .ok (.ifnonnull off, 3)) (ht : (pc : Int) + off = (tgt : Int)) (kt : ¬ x = none → G X cx nL Q k n m nx L st tgt) (kf : x = none → G X cx nL Q k n m nx L st (pc + 3)) : G X cx nL Q k n m nx L (.inr x :: st) pc := by
  intro H locs ls hP hL hl
  cases x with
  | none => exact lv_ifnonnullN F.1 F.2.1 hdg (kf rfl H locs ls hP hL hl)
  | some a => exact lv_ifnonnull F.1 F.2.1 hdg ht (kt (fun h => by cases h) H locs ls hP hL hl)
theorem G_tabIn (F : Fix X cx own cc nL ret nm d MC MS) {dflt lo hi : Int} {offs : Array Int} {len : Nat} {x : Int32} {off : Int} {tgt : Nat} (hdg : decode cc pc = .ok (.tableswitch dflt lo hi offs, len)) (h1 : ¬ x.toInt < lo) (h2 : ¬ hi < x.toInt) (ho : offs[(x.toInt - lo).toNat]? = some off) (ht : (pc : Int) + off = (tgt : Int)) (kk : G X cx nL Q k n m nx L st tgt) : G X cx nL Q k n m nx L (.inl x :: st) pc := fun H locs ls hP hL hl => lv_tableIn F.1 F.2.1 hdg h1 h2 ho ht (kk H locs ls hP hL hl)
theorem G_tabOut (F : Fix X cx own cc nL ret nm d MC MS) {dflt lo hi : Int} {offs : Array Int} {len : Nat} {x : Int32} {tgt : Nat} (hdg : decode cc pc = .ok (.tableswitch dflt lo hi offs, len)) (h1 : x.toInt < lo ∨ hi < x.toInt) (ht : (pc : Int) + dflt = (tgt : Int)) (kk : G X cx nL Q k n m nx L st tgt) : G X cx nL Q k n m nx L (.inl x :: st) pc := fun H locs ls hP hL hl => lv_tableOut F.1 F.2.1 hdg h1 ht (kk H locs ls hP hL hl)
theorem G_sub (F : Fix X cx own cc nL ret nm d MC MS) {L2 : List (Option Vl)} (h : lle L2 L) (kk : G X cx nL Q k n m nx L2 st pc) : G X cx nL Q k n m nx L st pc := fun H locs ls hP hL hl => kk H locs ls hP hL (lh.mono hl fun j v hj => lz_mem.mpr ⟨j, v, lle_at h j v hj, by rw [Nat.zero_add]⟩)
theorem G_iret (F : Fix X cx own cc nL ret nm d MC MS) {v : Int32} {nx0 mc ms : Nat} (hr : ret = some .int) (hk : k ≤ mc) (hn : n ≤ ms) (hx : nx = nx0 + mc) (hdg : decode cc pc = .ok (.ireturn, 1)) : G X cx nL (Qm X cx (some (.inl v)) m nx0 mc ms) k n m nx L [.inl v] pc := by
  intro H locs ls hP hL hl
  subst hx
  exact W.widen hk hn (W.iret (v := v) F.1 F.2.1 (F.2.2.1.trans hr) (fun t ht hW => ⟨rfl, by rw [ht]; exact hP⟩) hL hdg F.2.2.2.1)
theorem G_zret (F : Fix X cx own cc nL ret nm d MC MS) {v : Int32} {nx0 mc ms : Nat} (hr : ret = some .boolean) (hz : v = 0 ∨ v = 1) (hk : k ≤ mc) (hn : n ≤ ms) (hx : nx = nx0 + mc) (hdg : decode cc pc = .ok (.ireturn, 1)) : G X cx nL (Qm X cx (some (.inl v)) m nx0 mc ms) k n m nx L [.inl v] pc := by
  intro H locs ls hP hL hl
  subst hx
  exact W.widen hk hn (W.zret (v := v) F.1 F.2.1 (F.2.2.1.trans hr) (by rcases hz with rfl | rfl <;> rfl) (fun t ht hW => ⟨rfl, by rw [ht]; exact hP⟩) hL hdg F.2.2.2.1)
theorem G_aret (F : Fix X cx own cc nL ret nm d MC MS) {v : Option Nat} {nx0 mc ms : Nat} {C : String} (hr : ret = some (.object C)) (hk : k ≤ mc) (hn : n ≤ ms) (hx : nx = nx0 + mc) (hdg : decode cc pc = .ok (.areturn, 1)) : G X cx nL (Qm X cx (some (.inr v)) m nx0 mc ms) k n m nx L [.inr v] pc := by
  intro H locs ls hP hL hl
  subst hx
  exact W.widen hk hn (W.aret (v := tv (.inr v)) F.1 F.2.1 (F.2.2.1.trans hr) (Or.inl ⟨C, rfl⟩) (by rw [← tv_rf]; exact va_rf_or v) (fun t ht hW => ⟨rfl, by rw [ht]; exact hP⟩) hL hdg F.2.2.2.1)
theorem G_vret (F : Fix X cx own cc nL ret nm d MC MS) {nx0 mc ms : Nat} (hr : ret = none) (hk : k ≤ mc) (hn : n ≤ ms) (hx : nx = nx0 + mc) (hdg : decode cc pc = .ok (.return_, 1)) : G X cx nL (Qm X cx none m nx0 mc ms) k n m nx L [] pc := by
  intro H locs ls hP hL hl
  subst hx
  exact W.widen hk hn (W.vret F.1 F.2.1 (F.2.2.1.trans hr) (fun t ht hW => ⟨rfl, by rw [ht]; exact hP⟩) hL hdg F.2.2.2.1)
end ROWS
/-! memory -/
theorem hp_gV_of {m : Hp} {r : Option Nat} {ci k : Nat} {v : Vl} (h : hp_gV m r ci k = some v) : ∃ a fs, r = some a ∧ m a = some (.inr (ci, fs)) ∧ fs[k]? = some v := by
  unfold hp_gV at h
  split at h
  · cases h
  · rename_i a
    split at h
    · rename_i c fs hm
      split at h
      · rename_i hc
        subst hc
        exact ⟨a, fs, rfl, hm, h⟩
      · cases h
    · cases h
theorem hp_gI_of {m : Hp} {r : Option Nat} {ci k : Nat} {v : Int32} (h : hp_gI m r ci k = some v) : hp_gV m r ci k = some (.inl v) := by
  unfold hp_gI at h
  split at h
  · rename_i x hx; cases h; exact hx
  · cases h
theorem hp_gR_of {m : Hp} {r : Option Nat} {ci k : Nat} {v : Option Nat} (h : hp_gR m r ci k = some v) : hp_gV m r ci k = some (.inr v) := by
  unfold hp_gR at h
  split at h
  · rename_i x hx; cases h; exact hx
  · cases h
theorem hp_pV_of {m m2 : Hp} {r : Option Nat} {ci k : Nat} {v : Vl} (h : hp_pV m r ci k v = some m2) : ∃ a fs, r = some a ∧ m a = some (.inr (ci, fs)) ∧ k < fs.length ∧ m2 = hp_set m a (.inr (ci, fs.set k v)) := by
  unfold hp_pV at h
  split at h
  · cases h
  · rename_i a
    split at h
    · rename_i c fs hm
      split at h
      · rename_i hc
        obtain ⟨rfl, hl⟩ := hc
        exact ⟨a, fs, rfl, hm, hl, (Option.some.inj h).symm⟩
      · cases h
    · cases h
theorem hp_arr_of {m : Hp} {r : Option Nat} {t n : Nat} {c : ArC} (h : hp_arr m r t = some (n, c)) : ∃ a, r = some a ∧ m a = some (.inl (t, n, c)) := by
  unfold hp_arr at h
  split at h
  · cases h
  · rename_i a
    split at h
    · rename_i t' n' c' hm
      split at h
      · rename_i ht
        subst ht
        cases h
        exact ⟨a, rfl, hm⟩
      · cases h
    · cases h
theorem hp_in_of {i : Int32} {n : Nat} (h : hp_in i n = true) : vp_in i n := by
  unfold hp_in at h
  exact (of_decide_eq_true h : ¬ (i < 0 ∨ n ≤ i.toNatClampNeg))
theorem PH.get {X : Gx} {m : Hp} {nx : Nat} {H : Heap} (h : PH X m nx H) {a : Nat} {e : Cel} (hm : m a = some e) : va_at X.2.1 vwCl (a, trE X e) H := (h.2.2.1 a e hm).2
/-- a cell written: the picture goes on -/
theorem PH.put {X : Gx} {m : Hp} {nx : Nat} {H H1 : Heap} (h : PH X m nx H) {a : Nat} {e0 e : Cel} (hm : m a = some e0) (he : va_at X.2.1 vwCl (a, trE X e) H1) (z : H1.size = H.size) (oq : ∀ q : Nat, q ≠ a → H1[q]? = H[q]?) : PH X (hp_set m a e) nx H1 := by
  have ha := (h.2.2.1 a e0 hm).1
  refine ⟨z.trans h.1, h.2.1, fun b f hb => ?_, fun q hq => ?_⟩
  · unfold hp_set at hb
    split at hb
    · rename_i hba
      subst hba
      cases hb
      exact ⟨ha, he⟩
    · rename_i hba
      exact ⟨(h.2.2.1 b f hb).1, (h.2.2.1 b f hb).2.kept (oq b hba)⟩
  · rw [oq q (by omega)]
    exact h.2.2.2 q hq
/-- a cell made -/
theorem PH.new {X : Gx} {m : Hp} {nx : Nat} {H H1 : Heap} (h : PH X m nx H) {e : Cel} (he : va_at X.2.1 vwCl (nx, trE X e) H1) (z : H1.size = nx + 1) (oq : ∀ q : Nat, q < nx → H1[q]? = H[q]?) : PH X (hp_set m nx e) (nx + 1) H1 := by
  refine ⟨z, Nat.le_succ_of_le h.2.1, fun b f hb => ?_, fun q hq => ?_⟩
  · unfold hp_set at hb
    split at hb
    · rename_i hba
      subst hba
      cases hb
      exact ⟨h.2.1, he⟩
    · rename_i hba
      have h1 := h.2.2.1 b f hb
      have hl : b < H.size := h1.2.lt
      exact ⟨h1.1, h1.2.kept (oq b (by rw [← h.1]; exact hl))⟩
  · have := h.2.1
    rw [oq q (by omega)]
    exact h.2.2.2 q hq
theorem KS.ty {X : Gx} {s : State} (h : KS X s) {t : Nat} (ht : t < 8) : ArrOfT s (X.2.2.1 t) (tysT t) ∧ va_RA s (X.2.2.1 t) (tysT t) := by
  refine h.1.2 t (X.2.2.1 t, tysT t) ?_
  simp [tysL, ht]
theorem mt_declares {args : Array Value} {s : State} {C O f d : String} {cC : ClassId} (hfc : s.vm.findClass C = some cC) (h : (Cond.lays C O f d).before args s = true ∨ (Cond.laysFinal C O f d).before args s = true) {cf kf fi fd} (hi : s.fieldFound? O f d = some (cf, kf, fi, fd)) :
    s.vm.findClass O = some cf ∧ ∃ dd, Jmm.declares? s.vm fd.slot (cC + 1) cC = some dd ∧ dd.2.name = fd.name ∧ dd.1.name = kf.name := by
  rcases h with hl | hl
  · have ho := Cond.lays_declared hl hi
    obtain ⟨c, k, c', k', i, x, r1, -, r3, -, -, -, -, dd, q1, q2, q3, -⟩ := Cond.lays_spec hl
    cases hfc.symm.trans r1
    cases hi.symm.trans r3
    exact ⟨ho, dd, q1, q3, q2⟩
  · obtain ⟨c, k, c', k', i, x, r1, -, r3, -, -, -, ho, -, dd, q1, q2, q3, -⟩ := Cond.laysFinal_spec hl
    cases hfc.symm.trans r1
    cases hi.symm.trans r3
    exact ⟨ho, dd, q1, q3, q2⟩
/-- the fields' slots are apart -/
theorem mt_apart {X : Gx} {cx : Cx} {own nm : String} {cc : ByteArray} {nL : Nat} {ret : Option FieldType} {d MC MS : Nat} (F : Fix X cx own cc nL ret nm d MC MS) {ci N : Nat} {C : String} {T : u_T} {ty : Nat → FieldType} (K : ClOK ci C T N ty) :
    ∀ x y, x < N → y < N → x ≠ y → (X.2.1.2 ci) x ≠ (X.2.1.2 ci) y := by
  intro x y hx hy hne
  obtain ⟨hc, hin, hty, hnm⟩ := K
  have hts := F.2.2.2.2.2.2.1
  obtain ⟨hS, hfc, kC, hkC, hkind⟩ := F.2.2.2.2.2.2.2.1.1.1 ci _ hc
  obtain ⟨ca, ka, ia, fa, hia, ea⟩ := hS x hx
  obtain ⟨cb, kb, ib, fb, hib, eb⟩ := hS y hy
  rw [← ea, ← eb]
  rcases hnm x hx y hy hne with h | h
  · refine u_apart (u_lays hts hin hx) (u_lays hts hin hy) hia hib ?_
    rw [(State.fieldFound?_type hia (hty x hx)).1, (State.fieldFound?_type hib (hty y hy)).1]
    exact h
  · intro hs
    obtain ⟨oa, da, a1, a2, a3⟩ := mt_declares hfc (u_lays hts hin hx) hia
    obtain ⟨ob, db, b1, b2, b3⟩ := mt_declares hfc (u_lays hts hin hy) hib
    rw [hs] at a1
    cases a1.symm.trans b1
    obtain ⟨k1, g1, n1⟩ := Vm.findClass_spec oa
    obtain ⟨k2, g2, n2⟩ := Vm.findClass_spec ob
    have e1 : k1 = ka := Option.some.inj (g1.symm.trans (State.fieldFound?_class hia))
    have e2 : k2 = kb := Option.some.inj (g2.symm.trans (State.fieldFound?_class hib))
    subst e1; subst e2
    exact h (n1.symm.trans (a3.symm.trans (b3.trans n2)))
section MEM
variable {X : Gx} {cx : Cx} {own nm : String} {cc : ByteArray} {nL : Nat} {ret : Option FieldType} {d MC MS : Nat} {Q : State → Prop} {k n : Nat} {m : Hp} {nx : Nat} {L : List (Option Vl)} {st : List Vl} {pc : Nat}
theorem vpV_map {fs : List Vl} {j : Nat} {v : Vl} (h : fs[j]? = some v) : vp_V (fs.map tv) j = tv v := by
  simp [vp_V, List.getD_eq_getElem?_getD, h]
theorem G_getV (F : Fix X cx own cc nL ret nm d MC MS) {ci N : Nat} {C ref : String} {T : u_T} {ty : Nat → FieldType} (K : ClOK ci C T N ty) {i f : Nat} (hf : f < N) {r : Option Nat} {v : Vl} (q : Cond.fieldLink own i ref (T f).2.1 (T f).2.2.1 ∈ lw_all) (hs : (T f).1 = ref) (hdg : decode cc pc = .ok (.getfield i, 3)) (e : hp_gV m r ci f = some v) (kk : G X cx nL Q k n m nx L (v :: st) (pc + 3)) : G X cx nL Q k n m nx L (.inr r :: st) pc := by
  intro H locs ls hP hL hl
  obtain ⟨a, fs, rfl, hm, hv⟩ := hp_gV_of e
  subst hs
  have hts := F.2.2.2.2.2.2.1
  obtain ⟨hc, hin, hty, -⟩ := K
  obtain ⟨r0, h1, cell, q1, q2, q3, q4⟩ := hP.get hm
  have hr : r0 = (C, T, N) := Option.some.inj (h1.symm.trans hc)
  subst hr
  obtain ⟨hS, hfc, kC, hkC, hkind⟩ := F.2.2.2.2.2.2.2.1.1.1 ci _ hc
  obtain ⟨cf, kf, fi, fd, hi, hsl⟩ := hS f hf
  refine W.getf F.1 F.2.1 F.2.2.2.2.2.1 (hts _ q) hi (u_facts hfc hkC (u_lays hts hin hf) hi).1 q1 (by rw [q3]; exact fun h => by cases h) (v := tv v) ?_ rfl rfl hdg (kk H locs ls hP hL hl)
  rw [hsl, q4 f hf]
  exact congrArg some (vpV_map hv)
theorem G_getI (F : Fix X cx own cc nL ret nm d MC MS) {ci N : Nat} {C ref : String} {T : u_T} {ty : Nat → FieldType} (K : ClOK ci C T N ty) {i f : Nat} (hf : f < N) {r : Option Nat} {v : Int32} (q : Cond.fieldLink own i ref (T f).2.1 (T f).2.2.1 ∈ lw_all) (hs : (T f).1 = ref) (hdg : decode cc pc = .ok (.getfield i, 3)) (e : hp_gI m r ci f = some v) (kk : G X cx nL Q k n m nx L (.inl v :: st) (pc + 3)) : G X cx nL Q k n m nx L (.inr r :: st) pc := G_getV F K hf q hs hdg (hp_gI_of e) kk
theorem G_getR (F : Fix X cx own cc nL ret nm d MC MS) {ci N : Nat} {C ref : String} {T : u_T} {ty : Nat → FieldType} (K : ClOK ci C T N ty) {i f : Nat} (hf : f < N) {r v : Option Nat} (q : Cond.fieldLink own i ref (T f).2.1 (T f).2.2.1 ∈ lw_all) (hs : (T f).1 = ref) (hdg : decode cc pc = .ok (.getfield i, 3)) (e : hp_gR m r ci f = some v) (kk : G X cx nL Q k n m nx L (.inr v :: st) (pc + 3)) : G X cx nL Q k n m nx L (.inr r :: st) pc := G_getV F K hf q hs hdg (hp_gR_of e) kk
theorem G_getVN (F : Fix X cx own cc nL ret nm d MC MS) {ci N : Nat} {C ref host : String} {T : u_T} {ty : Nat → FieldType} (K : ClOK ci C T N ty) {i f : Nat} (hf : f < N) {r : Option Nat} {v : Vl} (q : Cond.fieldLinkNest own i ref (T f).2.1 (T f).2.2.1 host ∈ lw_tbl) (hs : (T f).1 = ref) (hdg : decode cc pc = .ok (.getfield i, 3)) (e : hp_gV m r ci f = some v) (kk : G X cx nL Q k n m nx L (v :: st) (pc + 3)) : G X cx nL Q k n m nx L (.inr r :: st) pc := by
  intro H locs ls hP hL hl
  obtain ⟨a, fs, rfl, hm, hv⟩ := hp_gV_of e
  subst hs
  have hts := F.2.2.2.2.2.2.1
  obtain ⟨hc, hin, hty, -⟩ := K
  obtain ⟨r0, h1, cell, q1, q2, q3, q4⟩ := hP.get hm
  have hr : r0 = (C, T, N) := Option.some.inj (h1.symm.trans hc)
  subst hr
  obtain ⟨hS, hfc, kC, hkC, hkind⟩ := F.2.2.2.2.2.2.2.1.1.1 ci _ hc
  obtain ⟨cf, kf, fi, fd, hi, hsl⟩ := hS f hf
  refine va_Wgetf F.1 F.2.1 F.2.2.2.2.2.1 (va_Nw.use rfl (F.2.2.2.2.2.2.2.1.2.1.1 _ _ _ _ _ _ q)) hi (u_facts hfc hkC (u_lays hts hin hf) hi).1 q1 (by rw [q3]; exact fun h => by cases h) (v := tv v) ?_ rfl rfl hdg (kk H locs ls hP hL hl)
  rw [hsl, q4 f hf]
  exact congrArg some (vpV_map hv)
theorem G_getIN (F : Fix X cx own cc nL ret nm d MC MS) {ci N : Nat} {C ref host : String} {T : u_T} {ty : Nat → FieldType} (K : ClOK ci C T N ty) {i f : Nat} (hf : f < N) {r : Option Nat} {v : Int32} (q : Cond.fieldLinkNest own i ref (T f).2.1 (T f).2.2.1 host ∈ lw_tbl) (hs : (T f).1 = ref) (hdg : decode cc pc = .ok (.getfield i, 3)) (e : hp_gI m r ci f = some v) (kk : G X cx nL Q k n m nx L (.inl v :: st) (pc + 3)) : G X cx nL Q k n m nx L (.inr r :: st) pc := G_getVN F K hf q hs hdg (hp_gI_of e) kk
theorem G_getRN (F : Fix X cx own cc nL ret nm d MC MS) {ci N : Nat} {C ref host : String} {T : u_T} {ty : Nat → FieldType} (K : ClOK ci C T N ty) {i f : Nat} (hf : f < N) {r v : Option Nat} (q : Cond.fieldLinkNest own i ref (T f).2.1 (T f).2.2.1 host ∈ lw_tbl) (hs : (T f).1 = ref) (hdg : decode cc pc = .ok (.getfield i, 3)) (e : hp_gR m r ci f = some v) (kk : G X cx nL Q k n m nx L (.inr v :: st) (pc + 3)) : G X cx nL Q k n m nx L (.inr r :: st) pc := G_getVN F K hf q hs hdg (hp_gR_of e) kk
/-- what may be put into a field of that type -/
def vfit (ty : FieldType) (v : Vl) : Prop := narrow ty (tv v) = tv v ∧ fits ty (tv v) = true
theorem PH.field {m2 : Hp} {H H1 : Heap} (hP : PH X m nx H) {ci N : Nat} {C : String} {T : u_T} (hc : vwCl[ci]? = some (C, T, N)) {a f : Nat} {fs : List Vl} {v : Vl} (hm : m a = some (.inr (ci, fs))) (hl : f < fs.length) {cell : Cell} (q1 : H[a]? = some cell) (q2 : cell.cls = X.2.1.1 ci) (q3 : cell.vm = .none) (q4 : ∀ j, j < N → cell.slots[X.2.1.2 ci j]? = some (vp_V (fs.map tv) j)) (hap : ∀ x y, x < N → y < N → x ≠ y → (X.2.1.2 ci) x ≠ (X.2.1.2 ci) y) (hf : f < N)
    (e1 : H1[a]? = some (cell.setSlot (X.2.1.2 ci f) (tv v))) (z : H1.size = H.size) (oq : ∀ q : Nat, q ≠ a → H1[q]? = H[q]?) : PH X (hp_set m a (.inr (ci, fs.set f v))) nx H1 := by
  refine hP.put hm ?_ z oq
  refine ⟨_, hc, t_OB.to (V := updV (vp_V (fs.map tv)) f (tv v)) ⟨_, e1, q2, q3, t_set q4 hap hf (tv v)⟩ (fun j _ => ?_)⟩
  rw [List.map_set]
  exact vp_updV_set (by rw [List.length_map]; exact hl) (tv v) j
theorem G_putV (F : Fix X cx own cc nL ret nm d MC MS) {ci N : Nat} {C ref : String} {T : u_T} {ty : Nat → FieldType} (K : ClOK ci C T N ty) {i f : Nat} (hf : f < N) {r : Option Nat} {v : Vl} {m2 : Hp} (q : Cond.fieldLink own i ref (T f).2.1 (T f).2.2.1 ∈ lw_all) (hs : (T f).1 = ref) (hfin : (T f).2.2.2 = false) (hdg : decode cc pc = .ok (.putfield i, 3)) (hv : vfit (ty f) v) (e : hp_pV m r ci f v = some m2) (kk : G X cx nL Q k n m2 nx L st (pc + 3)) : G X cx nL Q k n m nx L (v :: .inr r :: st) pc := by
  intro H locs ls hP hL hl
  have hap := mt_apart F K
  obtain ⟨a, fs, rfl, hm, hlen, rfl⟩ := hp_pV_of e
  subst hs
  have hts := F.2.2.2.2.2.2.1
  obtain ⟨hc, hin, hty, -⟩ := K
  obtain ⟨r0, h1, cell, q1, q2, q3, q4⟩ := hP.get hm
  have hr : r0 = (C, T, N) := Option.some.inj (h1.symm.trans hc)
  subst hr
  obtain ⟨hS, hfc, kC, hkC, hkind⟩ := F.2.2.2.2.2.2.2.1.1.1 ci _ hc
  obtain ⟨cf, kf, fi, fd, hi, hsl⟩ := hS f hf
  have hlay := hts _ (hin _ (u_in_lay hf))
  unfold u_lay at hlay
  rw [if_neg (by rw [hfin]; decide)] at hlay
  have hst := (u_facts hfc hkC (u_lays hts hin hf) hi).1
  have h6 := u_store hfc hkC hkind hlay hi (hty f hf) hv.1 hv.2
  refine W.putK F.1 F.2.1 (f := fd) ⟨F.2.2.2.2.2.1, hts _ q, ⟨_, _, _, hi⟩, hst⟩ (by rw [q2]; exact h6) q1 q3 (by rw [hsl]; exact k2_hasslot (q4 f hf)) rfl rfl hdg fun H' e1 e2 e3 => ?_
  rw [hsl] at e1
  refine kk H' _ ls (hP.field (m2 := m) hc hm hlen q1 q2 q3 q4 hap hf e1 e2 e3) (fun q hq => ?_) hl
  rcases List.mem_append.mp hq with h | h
  · exact hL q h
  · rw [List.mem_singleton.mp h]
    exact (hP.2.2.1 a _ hm).1
theorem G_putVN (F : Fix X cx own cc nL ret nm d MC MS) {ci N : Nat} {C ref host : String} {T : u_T} {ty : Nat → FieldType} (K : ClOK ci C T N ty) {i f : Nat} (hf : f < N) {r : Option Nat} {v : Vl} {m2 : Hp} (q : Cond.fieldLinkNest own i ref (T f).2.1 (T f).2.2.1 host ∈ lw_tbl) (hs : (T f).1 = ref) (hfin : (T f).2.2.2 = false) (hdg : decode cc pc = .ok (.putfield i, 3)) (hv : vfit (ty f) v) (e : hp_pV m r ci f v = some m2) (kk : G X cx nL Q k n m2 nx L st (pc + 3)) : G X cx nL Q k n m nx L (v :: .inr r :: st) pc := by
  intro H locs ls hP hL hl
  have hap := mt_apart F K
  obtain ⟨a, fs, rfl, hm, hlen, rfl⟩ := hp_pV_of e
  subst hs
  have hts := F.2.2.2.2.2.2.1
  obtain ⟨hc, hin, hty, -⟩ := K
  obtain ⟨r0, h1, cell, q1, q2, q3, q4⟩ := hP.get hm
  have hr : r0 = (C, T, N) := Option.some.inj (h1.symm.trans hc)
  subst hr
  obtain ⟨hS, hfc, kC, hkC, hkind⟩ := F.2.2.2.2.2.2.2.1.1.1 ci _ hc
  obtain ⟨cf, kf, fi, fd, hi, hsl⟩ := hS f hf
  have hlay := hts _ (hin _ (u_in_lay hf))
  unfold u_lay at hlay
  rw [if_neg (by rw [hfin]; decide)] at hlay
  have hst := (u_facts hfc hkC (u_lays hts hin hf) hi).1
  have h6 := u_store hfc hkC hkind hlay hi (hty f hf) hv.1 hv.2
  refine va_WputK F.1 F.2.1 (f := fd) F.2.2.2.2.2.1 (va_Nw.use rfl (F.2.2.2.2.2.2.2.1.2.1.1 _ _ _ _ _ _ q)) hi hst (by rw [q2]; exact h6) q1 q3 (by rw [hsl]; exact k2_hasslot (q4 f hf)) rfl rfl hdg fun H' e1 e2 e3 => ?_
  rw [hsl] at e1
  refine kk H' _ ls (hP.field (m2 := m) hc hm hlen q1 q2 q3 q4 hap hf e1 e2 e3) (fun q hq => ?_) hl
  rcases List.mem_append.mp hq with h | h
  · exact hL q h
  · rw [List.mem_singleton.mp h]
    exact (hP.2.2.1 a _ hm).1
theorem G_putVF (F : Fix X cx own cc nL ret "<init>" d MC MS) {ci N : Nat} {C ref : String} {T : u_T} {ty : Nat → FieldType} (K : ClOK ci C T N ty) {i f : Nat} (hf : f < N) {r : Option Nat} {v : Vl} {m2 : Hp} (q : Cond.fieldLink own i ref (T f).2.1 (T f).2.2.1 ∈ lw_all) (hs : (T f).1 = ref) (ho : (T f).1 = own) (hfin : (T f).2.2.2 = true) (hdg : decode cc pc = .ok (.putfield i, 3)) (hv : vfit (ty f) v) (e : hp_pV m r ci f v = some m2) (kk : G X cx nL Q k n m2 nx L st (pc + 3)) : G X cx nL Q k n m nx L (v :: .inr r :: st) pc := by
  intro H locs ls hP hL hl
  have hap := mt_apart F K
  obtain ⟨a, fs, rfl, hm, hlen, rfl⟩ := hp_pV_of e
  subst hs
  have hts := F.2.2.2.2.2.2.1
  obtain ⟨hc, hin, hty, -⟩ := K
  obtain ⟨r0, h1, cell, q1, q2, q3, q4⟩ := hP.get hm
  have hr : r0 = (C, T, N) := Option.some.inj (h1.symm.trans hc)
  subst hr
  obtain ⟨hS, hfc, kC, hkC, hkind⟩ := F.2.2.2.2.2.2.2.1.1.1 ci _ hc
  obtain ⟨cf, kf, fi, fd, hi, hsl⟩ := hS f hf
  have hlay := hts _ (hin _ (u_in_lay hf))
  unfold u_lay at hlay
  rw [if_pos hfin] at hlay
  have hst := (u_facts hfc hkC (u_lays hts hin hf) hi).1
  have hcf : cx.2.2.2.2.1.cls = cf := by
    have hd := (mt_declares hfc (u_lays hts hin hf) hi).1
    rw [ho] at hd
    exact Option.some.inj (F.2.2.2.2.2.1.symm.trans hd)
  have h6 := u_fits hfc hkC hkind (Or.inr hlay) hi (hty f hf) hv.1 hv.2
  refine W.putFinK F.1 F.2.1 F.2.2.2.2.2.1 (hts _ q) hi hst hcf F.2.2.2.2.2.2.2.2.2 (by rw [q2]; exact h6) q1 q3 (by rw [hsl]; exact k2_hasslot (q4 f hf)) rfl rfl hdg fun H' e1 e2 e3 => ?_
  rw [hsl] at e1
  refine kk H' _ ls (hP.field (m2 := m) hc hm hlen q1 q2 q3 q4 hap hf e1 e2 e3) (fun q hq => ?_) hl
  rcases List.mem_append.mp hq with h | h
  · exact hL q h
  · rw [List.mem_singleton.mp h]
    exact (hP.2.2.1 a _ hm).1
theorem vfit_int (x : Int32) : vfit .int (.inl x) := ⟨rfl, rfl⟩
theorem vfit_obj (C : String) (r : Option Nat) : vfit (.object C) (.inr r) := by cases r <;> exact ⟨rfl, rfl⟩
theorem vfit_arr (t : FieldType) (r : Option Nat) : vfit (.array t) (.inr r) := by cases r <;> exact ⟨rfl, rfl⟩
theorem hp_pZ_of {m m2 : Hp} {r : Option Nat} {ci f : Nat} {x : Int32} (h : hp_pZ m r ci f x = some m2) : vfit .boolean (.inl x) ∧ hp_pV m r ci f (.inl x) = some m2 := by
  unfold hp_pZ at h
  split at h
  · rename_i hx
    rcases hx with rfl | rfl
    · exact ⟨⟨rfl, rfl⟩, h⟩
    · exact ⟨⟨rfl, rfl⟩, h⟩
  · cases h
end MEM
section ARR
variable {X : Gx} {cx : Cx} {own nm : String} {cc : ByteArray} {nL : Nat} {ret : Option FieldType} {d MC MS : Nat} {Q : State → Prop} {k n : Nat} {m : Hp} {nx : Nat} {L : List (Option Vl)} {st : List Vl} {pc : Nat}
theorem hp_aI_of {r : Option Nat} {t : Nat} {i v : Int32} (h : hp_aI m r t i = some v) : ∃ a N f, r = some a ∧ m a = some (.inl (t, N, .inl f)) ∧ vp_in i N ∧ v = f i.toNatClampNeg := by
  unfold hp_aI at h
  split at h
  · rename_i N f hm
    obtain ⟨a, rfl, hm2⟩ := hp_arr_of hm
    split at h
    · rename_i hi
      exact ⟨a, N, f, rfl, hm2, hp_in_of hi, (Option.some.inj h).symm⟩
    · cases h
  · cases h
theorem hp_aR_of {r : Option Nat} {t : Nat} {i : Int32} {v : Option Nat} (h : hp_aR m r t i = some v) : ∃ a N f, r = some a ∧ m a = some (.inl (t, N, .inr f)) ∧ vp_in i N ∧ v = f i.toNatClampNeg := by
  unfold hp_aR at h
  split at h
  · rename_i N f hm
    obtain ⟨a, rfl, hm2⟩ := hp_arr_of hm
    split at h
    · rename_i hi
      exact ⟨a, N, f, rfl, hm2, hp_in_of hi, (Option.some.inj h).symm⟩
    · cases h
  · cases h
theorem hp_sI_of {m2 : Hp} {r : Option Nat} {t : Nat} {i x : Int32} (h : hp_sI m r t i x = some m2) : ∃ a N f, r = some a ∧ m a = some (.inl (t, N, .inl f)) ∧ vp_in i N ∧ m2 = hp_set m a (.inl (t, N, .inl (hp_upI f i.toNatClampNeg (hp_nar t x)))) := by
  unfold hp_sI at h
  split at h
  · cases h
  · rename_i a
    split at h
    · rename_i N f hm
      obtain ⟨a', ha, hm⟩ := hp_arr_of hm
      cases ha
      split at h
      · rename_i hi
        exact ⟨a, N, f, rfl, hm, hp_in_of hi, (Option.some.inj h).symm⟩
      · cases h
    · cases h
theorem hp_sR_of {m2 : Hp} {r : Option Nat} {t : Nat} {i : Int32} {x : Option Nat} (h : hp_sR m r t i x = some m2) : ∃ a N f, r = some a ∧ m a = some (.inl (t, N, .inr f)) ∧ vp_in i N ∧ hp_okr m t x = true ∧ m2 = hp_set m a (.inl (t, N, .inr (hp_upR f i.toNatClampNeg x))) := by
  unfold hp_sR at h
  split at h
  · cases h
  · rename_i a
    split at h
    · rename_i N f hm
      obtain ⟨a', ha, hm⟩ := hp_arr_of hm
      cases ha
      split at h
      · rename_i hi
        exact ⟨a, N, f, rfl, hm, hp_in_of hi.1, hi.2, (Option.some.inj h).symm⟩
      · cases h
    · cases h
theorem PH.ai {H : Heap} (hP : PH X m nx H) {a t N : Nat} {f : Nat → Int32} (hm : m a = some (.inl (t, N, .inl f))) : H[a]? = some (arrV (X.2.2.1 t) N (fun j => .int (f j))) := hP.get hm
theorem PH.ar {H : Heap} (hP : PH X m nx H) {a t N : Nat} {f : Nat → Option Nat} (hm : m a = some (.inl (t, N, .inr f))) : H[a]? = some (arrV (X.2.2.1 t) N (fun j => va_rf (f j))) := hP.get hm
theorem arr_in {cA : ClassId} {N : Nat} {f : Nat → Value} {i : Int32} (h : vp_in i N) : ¬ (i < 0 ∨ (arrV cA N f).slots.size ≤ i.toNatClampNeg) := by rw [arrV_size]; exact h
theorem arr_rd {cA : ClassId} {N : Nat} {f : Nat → Value} {i : Int32} (h : vp_in i N) : (arrV cA N f).slots[i.toNatClampNeg]? = some (f i.toNatClampNeg) := arrV_read _ _ (Nat.not_le.mp fun q => h (Or.inr q))
theorem arr_kn {cA : ClassId} {N : Nat} {f : Nat → Value} : (arrV cA N f).vm ≠ .unknown := fun q => by cases q
theorem G_iald (F : Fix X cx own cc nL ret nm d MC MS) {r : Option Nat} {i v : Int32} (hdg : decode cc pc = .ok (.iaload, 1)) (e : hp_aI m r 0 i = some v) (kk : G X cx nL Q k n m nx L (.inl v :: st) (pc + 1)) : G X cx nL Q k n m nx L (.inl i :: .inr r :: st) pc := by
  intro H locs ls hP hL hl
  obtain ⟨a, N, f, rfl, hm, hi, rfl⟩ := hp_aI_of e
  exact W.iald F.1 F.2.1 (hP.ai hm) ((F.2.2.2.2.2.2.2.1.ty (t := 0) (by decide)).1 _ _) arr_kn (arr_in hi) (arr_rd hi) rfl rfl hdg (kk H locs ls hP hL hl)
theorem G_bald (F : Fix X cx own cc nL ret nm d MC MS) {r : Option Nat} {i v : Int32} (hdg : decode cc pc = .ok (.baload, 1)) (e : hp_aI m r 1 i = some v) (kk : G X cx nL Q k n m nx L (.inl v :: st) (pc + 1)) : G X cx nL Q k n m nx L (.inl i :: .inr r :: st) pc := by
  intro H locs ls hP hL hl
  obtain ⟨a, N, f, rfl, hm, hi, rfl⟩ := hp_aI_of e
  exact W.bald F.1 F.2.1 (hP.ai hm) ((F.2.2.2.2.2.2.2.1.ty (t := 1) (by decide)).1 _ _) arr_kn (arr_in hi) (arr_rd hi) rfl rfl hdg (kk H locs ls hP hL hl)
theorem G_zald (F : Fix X cx own cc nL ret nm d MC MS) {r : Option Nat} {i v : Int32} (hdg : decode cc pc = .ok (.baload, 1)) (e : hp_aI m r 2 i = some v) (kk : G X cx nL Q k n m nx L (.inl v :: st) (pc + 1)) : G X cx nL Q k n m nx L (.inl i :: .inr r :: st) pc := by
  intro H locs ls hP hL hl
  obtain ⟨a, N, f, rfl, hm, hi, rfl⟩ := hp_aI_of e
  exact W.zald F.1 F.2.1 (hP.ai hm) ((F.2.2.2.2.2.2.2.1.ty (t := 2) (by decide)).1 _ _) arr_kn (arr_in hi) (arr_rd hi) rfl rfl hdg (kk H locs ls hP hL hl)
theorem G_aald (F : Fix X cx own cc nL ret nm d MC MS) {r v : Option Nat} {t : Nat} {i : Int32} (ht : t < 8 ∧ 3 ≤ t) (hdg : decode cc pc = .ok (.aaload, 1)) (e : hp_aR m r t i = some v) (kk : G X cx nL Q k n m nx L (.inr v :: st) (pc + 1)) : G X cx nL Q k n m nx L (.inl i :: .inr r :: st) pc := by
  intro H locs ls hP hL hl
  obtain ⟨a, N, f, rfl, hm, hi, rfl⟩ := hp_aR_of e
  have hr : (tysT t).isReference = true := by
    obtain ⟨h1, h2⟩ := ht
    rcases (show t = 3 ∨ t = 4 ∨ t = 5 ∨ t = 6 ∨ t = 7 by omega) with rfl | rfl | rfl | rfl | rfl <;> rfl
  refine W.aald F.1 F.2.1 (hP.ar hm) ((F.2.2.2.2.2.2.2.1.ty (t := t) ht.1).1 _ _) hr arr_kn (arr_in hi) (arr_rd hi) rfl rfl hdg ?_
  rw [tv_rf]
  exact kk H locs ls hP hL hl
theorem PH.si {H H1 : Heap} (hP : PH X m nx H) {a t N : Nat} {f : Nat → Int32} {i x : Int32} (hm : m a = some (.inl (t, N, .inl f))) (e1 : H1[a]? = some ((arrV (X.2.2.1 t) N (fun j => .int (f j))).setSlot i.toNatClampNeg (.int x))) (z : H1.size = H.size) (oq : ∀ q : Nat, q ≠ a → H1[q]? = H[q]?) : PH X (hp_set m a (.inl (t, N, .inl (hp_upI f i.toNatClampNeg x)))) nx H1 := by
  have e2 : H1[a]? = some (arrV (X.2.2.1 t) N (fun j => .int (hp_upI f i.toNatClampNeg x j))) := by
    rw [e1, arrV_store]
    congr 2
    funext j
    by_cases hj : j = i.toNatClampNeg
    · subst hj; simp [updV, hp_upI]
    · simp [updV, hp_upI, hj]
  exact hP.put hm e2 z oq
theorem locs_put {z a j : Nat} {locs : List Loc} (hL : ∀ q ∈ locs, z ≤ q.base) (ha : z ≤ a) : ∀ q ∈ locs ++ [⟨a, j⟩], z ≤ q.base := by
  intro q hq
  rcases List.mem_append.mp hq with h | h
  · exact hL q h
  · rw [List.mem_singleton.mp h]; exact ha
theorem G_iast (F : Fix X cx own cc nL ret nm d MC MS) {m2 : Hp} {r : Option Nat} {i x : Int32} (hdg : decode cc pc = .ok (.iastore, 1)) (e : hp_sI m r 0 i x = some m2) (kk : G X cx nL Q k n m2 nx L st (pc + 1)) : G X cx nL Q k n m nx L (.inl x :: .inl i :: .inr r :: st) pc := by
  intro H locs ls hP hL hl
  obtain ⟨a, N, f, rfl, hm, hi, rfl⟩ := hp_sI_of e
  exact W.iast F.1 F.2.1 (hP.ai hm) ((F.2.2.2.2.2.2.2.1.ty (t := 0) (by decide)).1 _ _) arr_kn (arr_in hi) rfl rfl hdg fun H1 e1 z oq => kk H1 _ ls (hP.si hm e1 z oq) (locs_put hL (hP.2.2.1 a _ hm).1) hl
theorem G_bast (F : Fix X cx own cc nL ret nm d MC MS) {m2 : Hp} {r : Option Nat} {i x : Int32} (hdg : decode cc pc = .ok (.bastore, 1)) (e : hp_sI m r 1 i x = some m2) (kk : G X cx nL Q k n m2 nx L st (pc + 1)) : G X cx nL Q k n m nx L (.inl x :: .inl i :: .inr r :: st) pc := by
  intro H locs ls hP hL hl
  obtain ⟨a, N, f, rfl, hm, hi, rfl⟩ := hp_sI_of e
  exact W.bast F.1 F.2.1 (hP.ai hm) ((F.2.2.2.2.2.2.2.1.ty (t := 1) (by decide)).1 _ _) arr_kn (arr_in hi) rfl rfl hdg fun H1 e1 z oq => kk H1 _ ls (hP.si hm e1 z oq) (locs_put hL (hP.2.2.1 a _ hm).1) hl
theorem G_zast (F : Fix X cx own cc nL ret nm d MC MS) {m2 : Hp} {r : Option Nat} {i x : Int32} (hdg : decode cc pc = .ok (.bastore, 1)) (e : hp_sI m r 2 i x = some m2) (kk : G X cx nL Q k n m2 nx L st (pc + 1)) : G X cx nL Q k n m nx L (.inl x :: .inl i :: .inr r :: st) pc := by
  intro H locs ls hP hL hl
  obtain ⟨a, N, f, rfl, hm, hi, rfl⟩ := hp_sI_of e
  exact W.zast F.1 F.2.1 (hP.ai hm) ((F.2.2.2.2.2.2.2.1.ty (t := 2) (by decide)).1 _ _) arr_kn (arr_in hi) rfl rfl hdg fun H1 e1 z oq => kk H1 _ ls (hP.si hm e1 z oq) (locs_put hL (hP.2.2.1 a _ hm).1) hl
theorem PH.sr {H H1 : Heap} (hP : PH X m nx H) {a t N : Nat} {f : Nat → Option Nat} {i : Int32} {x : Option Nat} (hm : m a = some (.inl (t, N, .inr f))) (e1 : H1[a]? = some ((arrV (X.2.2.1 t) N (fun j => va_rf (f j))).setSlot i.toNatClampNeg (va_rf x))) (z : H1.size = H.size) (oq : ∀ q : Nat, q ≠ a → H1[q]? = H[q]?) : PH X (hp_set m a (.inl (t, N, .inr (hp_upR f i.toNatClampNeg x)))) nx H1 := by
  have e2 : H1[a]? = some (arrV (X.2.2.1 t) N (fun j => va_rf (hp_upR f i.toNatClampNeg x j))) := by
    rw [e1, arrV_store]
    congr 2
    funext j
    by_cases hj : j = i.toNatClampNeg
    · subst hj; simp [updV, hp_upR]
    · simp [updV, hp_upR, hj]
  exact hP.put hm e2 z oq
theorem hp_cls_of {r : Option Nat} {c : Nat} (h : hp_cls m r = some c) : ∃ a fs, r = some a ∧ m a = some (.inr (c, fs)) := by
  unfold hp_cls at h
  split at h
  · cases h
  · rename_i a
    split at h
    · rename_i c' fs hm
      cases h
      exact ⟨a, fs, rfl, hm⟩
    · cases h
/-- may the objects of class c stand in an array of that kind? -/
theorem okc_assign (F : Fix X cx own cc nL ret nm d MC MS) {t c : Nat} {E : String} (hE : tysT t = .object E) (h : hp_okc t c = true) {q : vw_C} (hq : vwCl[c]? = some q) {comp : ClassId} (hcomp : cx.2.2.2.1.vm.findClass E = some comp) : cx.2.2.2.1.vm.assignable (X.2.1.1 c) comp = true := by
  have hK := F.2.2.2.2.2.2.2.1
  obtain ⟨hS, hat⟩ := hK.1.1 c q hq
  have cast : ∀ {C : String}, q.1 = C → Cond.castable C E ∈ lw_tbl → cx.2.2.2.1.vm.assignable (X.2.1.1 c) comp = true := by
    intro C hC hw
    subst hC
    obtain ⟨c0, t0, f1, f2, f3⟩ := Cond.castable_spec (va_Nw.use (A := #[]) rfl (hK.2.1.2.2.1 _ _ hw))
    cases hat.1.symm.trans f1
    cases hcomp.symm.trans f2
    exact f3
  simp only [hp_okc, Bool.or_eq_true, Bool.and_eq_true, beq_iff_eq] at h
  rcases h with ((⟨rfl, h⟩ | ⟨rfl, h⟩) | ⟨rfl, rfl⟩) | ⟨rfl, rfl⟩
  · cases hE
    rcases h with (rfl | rfl) | rfl <;> cases hq
    · exact cast rfl wd_cast_Row
    · exact cast rfl wd_cast_Number
    · exact cast rfl wd_cast_Letter
  · cases hE
    rcases h with (rfl | rfl) | rfl <;> cases hq
    · exact cast rfl wd_cast_Some
    · exact cast rfl wd_cast_Not
    · exact cast rfl wd_cast_Compared
  · cases hE
    cases hq
    cases hcomp.symm.trans hat.1
    exact va_assign hat
  · cases hE
    cases hq
    cases hcomp.symm.trans hat.1
    exact va_assign hat
theorem G_aast (F : Fix X cx own cc nL ret nm d MC MS) {m2 : Hp} {r x : Option Nat} {t : Nat} {i : Int32} {E : String} (ht : t < 8) (hE : tysT t = .object E) (hdg : decode cc pc = .ok (.aastore, 1)) (e : hp_sR m r t i x = some m2) (kk : G X cx nL Q k n m2 nx L st (pc + 1)) : G X cx nL Q k n m nx L (.inr x :: .inl i :: .inr r :: st) pc := by
  intro H locs ls hP hL hl
  obtain ⟨a, N, f, rfl, hm, hi, hok, rfl⟩ := hp_sR_of e
  have hty := F.2.2.2.2.2.2.2.1.ty ht
  rw [hE] at hty
  cases x with
  | none =>
    exact va_WaastN (C := E) F.1 F.2.1 (hP.ar hm) (hty.1 _ _) arr_kn (arr_in hi) rfl rfl hdg fun H1 e1 z oq => kk H1 _ ls (hP.sr hm e1 z oq) (locs_put hL (hP.2.2.1 a _ hm).1) hl
  | some b =>
    unfold hp_okr at hok
    dsimp only at hok
    split at hok
    · rename_i c hc
      obtain ⟨b', fs, hb, hmb⟩ := hp_cls_of hc
      cases hb
      obtain ⟨q, hq, cellV, g1, g2, g3, -⟩ := hP.get hmb
      obtain ⟨kA, comp, k1, k2, k3, -⟩ := hty.2
      have has := okc_assign F hE hok hq k3
      obtain ⟨kcomp, hkcomp⟩ := Vm.classAt_of_findClass k3
      obtain ⟨-, kC, hkC, -⟩ := (F.2.2.2.2.2.2.2.1.1.1 c q hq).2
      refine W.aast F.1 F.2.1 (hP.ar hm) (fun q h => by cases h) arr_kn k1 k2 rfl hkcomp ⟨fun q => hi (Or.inl q), by rw [arrV_size]; exact Nat.not_le.mp fun q => hi (Or.inr q)⟩ g1 (fun q h => by rw [g3] at h; cases h) (by rw [g2]; exact hkC) (by rw [g2]; exact has) rfl rfl hdg fun H1 e1 z oq => kk H1 _ ls (hP.sr hm e1 z oq) (locs_put hL (hP.2.2.1 a _ hm).1) hl
    · cases hok
theorem G_alen (F : Fix X cx own cc nL ret nm d MC MS) {r : Option Nat} {t : Nat} {v : Int32} (ht : t < 8) (hdg : decode cc pc = .ok (.arraylength, 1)) (e : hp_len m r t = some v) (kk : G X cx nL Q k n m nx L (.inl v :: st) (pc + 1)) : G X cx nL Q k n m nx L (.inr r :: st) pc := by
  intro H locs ls hP hL hl
  unfold hp_len at e
  split at e
  · rename_i N c hm
    cases e
    obtain ⟨a, rfl, hm2⟩ := hp_arr_of hm
    have hty := F.2.2.2.2.2.2.2.1.ty ht
    rcases c with f | f
    · exact W.alen (n := Int32.ofNat N) F.1 F.2.1 (hP.ai hm2) (hty.1 _ _) (by rw [arrV_size] <;> rfl) rfl rfl hdg (kk H locs ls hP hL hl)
    · exact W.alen (n := Int32.ofNat N) F.1 F.2.1 (hP.ar hm2) (hty.1 _ _) (by rw [arrV_size] <;> rfl) rfl rfl hdg (kk H locs ls hP hL hl)
  · cases e
/-! new cells -/
theorem ci_name {f1 f2 : ClassId} {s : State} {nm : String} (h1 : s.vm.findClass nm = some f1) (h2 : s.vm.findClass nm = some f2) : f1 = f2 := Option.some.inj (h1.symm.trans h2)
theorem G_new (F : Fix X cx own cc nL ret nm d MC MS) {ci N : Nat} {C : String} {T : u_T} {ty : Nat → FieldType} (K : ClOK ci C T N ty) {i : Nat} {fs : List Vl} (q1 : Cond.classLink own i C ∈ lw_all) (q2 : Cond.instantiable C N ∈ lw_all) (q3 : Cond.initialized C ∈ lw_all) (hfs : ∀ j, j < N → defaultValue (ty j) = vp_V (fs.map tv) j) (hc : k + 1 ≤ MC) (hs : n + N ≤ MS) (hdg : decode cc pc = .ok (.new i, 3)) (kk : G X cx nL Q (k + 1) (n + N) (hp_set m nx (.inr (ci, fs))) (nx + 1) L (.inr (some nx) :: st) (pc + 3)) : G X cx nL Q k n m nx L st pc := by
  intro H locs ls hP hL hl
  have hts := F.2.2.2.2.2.2.1
  obtain ⟨hcl, hin, hty, -⟩ := K
  have hKn := F.2.2.2.2.2.2.2.1.1.1 ci _ hcl
  have hR := F.2.2.2.2.2.2.2.2.1
  refine W.newcK F.1 F.2.1 F.2.2.2.2.2.1 (hts _ q1) (hts _ q2) (hts _ q3) rfl hdg (Nat.le_trans hc hR.2.2.1) (Nat.le_trans hs hR.2.2.2) hKn.2.1 hP.1 fun H1 kC hkC e1 z1 o1 => ?_
  exact kk H1 locs ls (hP.new ⟨_, hcl, (u_born ty hts hin hKn hkC e1 hty).to hfs⟩ z1 o1) hL hl
theorem G_newa (F : Fix X cx own cc nL ret nm d MC MS) {t N : Nat} {atype : ArrayType} {v : Int32} (q1 : Cond.arrayClass (tysT t) ∈ lw_all) (hat : newarray.typeOf atype = tysT t) (ht : t < 3) (hv : ¬ v < 0) (hN : v.toNatClampNeg = N) (hB : N ≤ 100000) (hc : k + 1 ≤ MC) (hs : n + N ≤ MS) (hdg : decode cc pc = .ok (.newarray atype, 2)) (kk : G X cx nL Q (k + 1) (n + N) (hp_newa m nx t N) (nx + 1) L (.inr (some nx) :: st) (pc + 2)) : G X cx nL Q k n m nx L (.inl v :: st) pc := by
  intro H locs ls hP hL hl
  have hR := F.2.2.2.2.2.2.2.2.1
  have hcb : componentBytes (tysT t) ≤ 4 := by
    rcases (show t = 0 ∨ t = 1 ∨ t = 2 by omega) with rfl | rfl | rfl <;> decide
  have hdf : defaultValue (tysT t) = .int 0 := by
    rcases (show t = 0 ∨ t = 1 ∨ t = 2 by omega) with rfl | rfl | rfl <;> rfl
  refine va_newaK F.1 F.2.1 (by rw [hat]; exact F.2.2.2.2.2.2.1 _ q1) rfl hdg rfl hv hN (by rw [hat]; exact Nat.le_trans (Nat.mul_le_mul hB hcb) (by decide)) (Nat.le_trans hc hR.2.2.1) (Nat.le_trans hs hR.2.2.2) hP.1 fun H1 cA e1 z1 o1 hAr hNm => ?_
  rw [hat] at e1 hNm
  have hcA : cA = X.2.2.1 t := by
    have h2 := (F.2.2.2.2.2.2.2.1.ty (t := t) (by omega)).2
    rcases (show t = 0 ∨ t = 1 ∨ t = 2 by omega) with rfl | rfl | rfl <;> exact ci_name hNm h2
  subst hcA
  rw [hdf] at e1
  exact kk H1 locs ls (hP.new e1 z1 o1) hL hl
theorem G_newr (F : Fix X cx own cc nL ret nm d MC MS) {t N i : Nat} {C : String} {v : Int32} (q1 : Cond.classLink own i C ∈ lw_all) (q2 : Cond.arrayOver (.object C) ∈ lw_tbl) (hat : tysT t = .object C) (ht : t < 8) (hv : ¬ v < 0) (hN : v.toNatClampNeg = N) (hB : N ≤ 100000) (hc : k + 1 ≤ MC) (hs : n + N ≤ MS) (hdg : decode cc pc = .ok (.anewarray i, 3)) (kk : G X cx nL Q (k + 1) (n + N) (hp_newr m nx t N) (nx + 1) L (.inr (some nx) :: st) (pc + 3)) : G X cx nL Q k n m nx L (.inl v :: st) pc := by
  intro H locs ls hP hL hl
  subst hN
  have hR := F.2.2.2.2.2.2.2.2.1
  refine W.anew F.1 F.2.1 F.2.2.2.2.2.1 (F.2.2.2.2.2.2.1 _ q1) (F.2.2.2.2.2.2.2.1.2.1.2.2.2.2 _ q2) rfl hdg rfl hv (Nat.le_trans (Nat.mul_le_mul_right 4 hB) (by decide)) (Nat.le_trans hc hR.2.2.1) (Nat.le_trans hs hR.2.2.2) fun cA kA comp f1 f2 f3 f4 => ?_
  have hcA : cA = X.2.2.1 t := by
    have h2 := (F.2.2.2.2.2.2.2.1.ty (t := t) ht).2
    rw [hat] at h2
    obtain ⟨kA', comp', g1, g2, g3, g4⟩ := h2
    exact ci_name f1 g4
  subst hcA
  generalize hH1 : H.push ({ cls := X.2.2.1 t, slots := Array.replicate v.toNatClampNeg .null, vm := .none } : Cell) = H1
  have z1 : H1.size = nx + 1 := by rw [← hH1, Array.size_push, hP.1]
  have e1 : H1[nx]? = some (arrV (X.2.2.1 t) v.toNatClampNeg (fun _ => .null)) := by rw [← hH1, ← hP.1, Array.getElem?_push_size, ← arrV_new]
  have o1 : ∀ q : Nat, q < nx → H1[q]? = H[q]? := fun q hq => by rw [← hH1, Array.getElem?_push, if_neg (by rw [hP.1]; exact Nat.ne_of_lt hq)]
  rw [show H.size = nx from hP.1]
  refine kk H1 locs ls (hP.new ?_ z1 o1) hL hl
  exact e1
theorem G_objInit (F : Fix X cx own cc nL ret nm d MC MS) {i a : Nat} (q : Cond.methodLink own i Lib.objectInit ∈ lw_all) (q2 : Cond.instanceMethod Lib.objectInit ∈ lw_all) (q3 : Cond.code Lib.objectInit ⟨#[0xb1]⟩ 1 none ∈ lw_all) (hd : 1 ≤ d) (hr : st.length ≤ 8) (hdg : decode cc pc = .ok (.invokespecial i, 3)) (kk : G X cx nL Q k n m nx L st (pc + 3)) : G X cx nL Q k n m nx L (.inr (some a) :: st) pc := by
  intro H locs ls hP hL hl
  have hR := F.2.2.2.2.2.2.2.2.1
  have hts := F.2.2.2.2.2.2.1
  refine W.objInit F.1 F.2.1 F.2.2.2.2.2.1 (hts _ q) (hts _ q2) (hts _ q3) rfl (by rw [F.2.2.2.2.1]; exact hl.1) rfl hdg (Nat.le_trans hd hR.1) ?_ (kk H locs ls hP hL hl)
  have hsum : ((st.map tv).map fun v => v.category).sum = st.length := by
    clear hr kk
    induction st with
    | nil => rfl
    | cons x l ih => simp only [List.map_cons, List.sum_cons, tv_cat, List.length_cons, ih]; omega
  rw [hsum]
  show 2 * 0 + st.length + 12 ≤ _
  omega
end ARR
section CALL
variable {X : Gx} {cx : Cx} {own nm : String} {cc : ByteArray} {nL : Nat} {ret : Option FieldType} {d MC MS : Nat} {Q : State → Prop} {k n : Nat} {m : Hp} {nx : Nat} {L : List (Option Vl)} {st : List Vl} {pc : Nat}
variable {y : MethodName} {bytes : ByteArray} {maxL : Nat} {rt : Option FieldType} {dc mc ms i ci : Nat} {As st0 : List Vl} {rv : Option Vl} {m' : Hp} {r : Option Nat} {args : List Vl}
theorem lw_U {own : String} {idx : Nat} {C owner : String} {x y : MethodName} {b : ByteArray} {L : Nat} {r : Option FieldType} (h1 : Cond.methodLink own idx x ∈ lw_all) (h2 : Cond.sameMethod x.cls owner x.name x.desc ∈ lw_all) (h3 : Cond.selects C x y ∈ lw_all) (h4 : Cond.instanceMethod y ∈ lw_all) (h5 : Cond.initialized y.cls ∈ lw_all) (h6 : Cond.code y b L r ∈ lw_all) : GoodIn lw_all (va_wsU own idx C owner x y (ws_ y b L r)) := by
  refine lw_app (fun w hw => ?_) (lw_meth h6)
  simp only [List.mem_cons, List.not_mem_nil, or_false] at hw
  rcases hw with rfl | rfl | rfl | rfl | rfl
  · exact h1
  · exact h2
  · exact h3
  · exact h4
  · exact h5
theorem st_sum (l : List Vl) : ((l.map tv).map fun v => v.category).sum = l.length := by
  induction l with
  | nil => rfl
  | cons x l ih => simp only [List.map_cons, List.sum_cons, tv_cat, List.length_cons, ih]; omega
/-- behind a call -/
theorem G_after {H : Heap} {locs : List Loc} {ls : Array Slot} {sst : List Value}
    (hr : va_Run cx.1 X.1 cx.2.1 cx.2.2.1 cx.2.2.2.1 cx.2.2.2.2.1 cx.2.2.2.2.2.1 cx.2.2.2.2.2.2.1 cx.2.2.2.2.2.2.2.1 cx.2.2.2.2.2.2.2.2 H locs k n mc ms (F0 cx.2.2.2.2.1 pc ls sst) (st.map tv) (fun (_ : State) (o : Outcome) (t : State) => o = .returned (rv.map tv) ∧ PH X m' (nx + mc) t.heap) (fun q => X.2.2.2.1 ≤ q))
    (hL : ∀ q ∈ locs, X.2.2.2.1 ≤ q.base) (hl : lh ls nL L) (kk : G X cx nL Q (k + mc) (n + ms) m' (nx + mc) L (rv.toList ++ st) (pc + 3)) :
    W cx.1 X.1 cx.2.1 cx.2.2.1 cx.2.2.2.1 cx.2.2.2.2.1 cx.2.2.2.2.2.1 cx.2.2.2.2.2.2.1 cx.2.2.2.2.2.2.2.1 cx.2.2.2.2.2.2.2.2 H locs k n Q (F0 cx.2.2.2.2.1 pc ls sst) := by
  intro T hT XS
  obtain ⟨v, st₀, t, T', L', h0, X', hL', e1, e2, ⟨hv, hP⟩, sp⟩ := hr T hT XS
  have hv : v = rv.map tv := Outcome.returned.inj hv
  subst hv
  have hk := kk T'.heap (locs ++ L') ls (by rw [e1]; exact hP) (fun q hq => by
    rcases List.mem_append.mp hq with h | h
    · exact hL q h
    · exact hL' q h) hl
  obtain ⟨t2, a1, b1⟩ := hk T' rfl X'
  refine ⟨t2, sp t2 ?_, b1⟩
  have : (rv.toList ++ st).map tv = (rv.map tv).toList ++ st.map tv := by cases rv <;> simp
  rw [this] at a1
  exact a1
theorem blind {args : List Vl} {m : Hp} {nx : Nat} : FrameBlind (va_Pc (args.map tv) (fun U => PH X m nx U.heap ∧ KS X U)) := fun a U g mk q => ⟨q.1, q.2.1, q.2.2.calling⟩
theorem fixR (F : Fix X cx own cc nL ret nm d MC MS) (hl : dc + 1 ≤ d ∧ maxL ≤ 45) : dc + 1 ≤ cx.2.2.1.frames ∧ 8 + (maxL + 11) + 64 * dc ≤ cx.2.2.1.locals := by
  have hR := F.2.2.2.2.2.2.2.2.1
  constructor
  · omega
  · omega
theorem fixC (F : Fix X cx own cc nL ret nm d MC MS) (hf : k + mc ≤ MC ∧ n + ms ≤ MS) : k + mc ≤ cx.2.2.1.cells ∧ n + ms ≤ cx.2.2.1.slots := by
  have hR := F.2.2.2.2.2.2.2.2.1
  exact ⟨Nat.le_trans hf.1 hR.2.2.1, Nat.le_trans hf.2 hR.2.2.2⟩
theorem fixS (F : Fix X cx own cc nL ret nm d MC MS) : CallFix cx.1 cx.2.2.2.2.1 cx.2.2.2.2.2.2.2.2 cc nL cx.2.2.2.1 cx.2.2.2.2.2.1 lw_all own := ⟨F.1, F.2.1, F.2.2.2.2.1, F.2.2.2.2.2.1, F.2.2.2.2.2.2.1⟩
theorem pre_of (F : Fix X cx own cc nL ret nm d MC MS) {H : Heap} (hP : PH X m nx H) (args : List Vl) : ∀ U : State, U.heap = H → cx.2.2.2.1.WarmedH U.vm → va_Pc (args.map tv) (fun U => PH X m nx U.heap ∧ KS X U) (args.map tv).toArray U := fun U hU hW => ⟨rfl, by rw [hU]; exact hP, F.2.2.2.2.2.2.2.1.warm hW⟩
theorem mt_recv (F : Fix X cx own cc nL ret nm d MC MS) {H : Heap} (hP : PH X m nx H) {b : Nat} {fs : List Vl} {q : vw_C} (hq : vwCl[ci]? = some q) (hm : m b = some (.inr (ci, fs))) : ∃ cell : Cell, H[b]? = some cell ∧ cell.vm.isStatics = false ∧ cx.2.2.2.1.vm.findClass q.1 = some cell.cls := by
  obtain ⟨q', h1, cell, g1, g2, g3, -⟩ := hP.get hm
  exact ⟨cell, g1, by rw [g3]; rfl, by rw [g2]; exact (F.2.2.2.2.2.2.2.1.1.1 ci q hq).2.1⟩
/-- an own class's method, on an object of just that class -/
theorem G_callV (F : Fix X cx own cc nL ret nm d MC MS) (hM : Con X dc y bytes maxL rt (.inr r :: As) m nx rv m' mc ms) (hc : hp_cls m r = some ci) {q : vw_C} (hq : vwCl[ci]? = some q) (hqc : q.1 = y.cls) (hG : GoodIn lw_all (wsV own i y.cls y (ws_ y bytes maxL rt)))
    (hd : y.cls ≠ "java/lang/invoke/MethodHandle" ∧ y.cls ≠ "java/lang/invoke/VarHandle" ∧ (parseMethodDescriptor y.desc).map (fun d => d.parameters.length) = some As.length) (hl : dc + 1 ≤ d ∧ maxL ≤ 45) (hst : st0 = As.reverse ++ .inr r :: st) (hw : st.length ≤ 8) (hf : k + mc ≤ MC ∧ n + ms ≤ MS) (hdg : decode cc pc = .ok (.invokevirtual i, 3))
    (kk : G X cx nL Q (k + mc) (n + ms) m' (nx + mc) L (rv.toList ++ st) (pc + 3)) : G X cx nL Q k n m nx L st0 pc := by
  intro H locs ls hP hL hll
  obtain ⟨b, fs, rfl, hm⟩ := hp_cls_of hc
  subst hst
  refine G_after (va_runV (As := As.map tv) (rest := st.map tv) (b := b) (C := y.cls) (fixS F) hM (cwV As.length F.2.2.2.2.2.2.1 hG rfl rfl rfl ⟨rfl, hd⟩ (fixR F hl)) ⟨blind, by rw [← hqc]; exact mt_recv F hP hq hm, pre_of F hP (.inr (some b) :: As)⟩ rfl (by simp) (by exact hll.1) (by simp [tv]) (by rw [st_sum]; show 2 * 0 + st.length ≤ 8; omega) hdg (fixC F hf)) hL hll kk
theorem G_callS (F : Fix X cx own cc nL ret nm d MC MS) (hM : Con X dc y bytes maxL rt As m nx rv m' mc ms) (hG : GoodIn lw_all (va_wsS own i y (ws_ y bytes maxL rt)))
    (hd : y.cls ≠ "java/lang/invoke/MethodHandle" ∧ y.cls ≠ "java/lang/invoke/VarHandle" ∧ (parseMethodDescriptor y.desc).map (fun d => d.parameters.length) = some As.length) (hl : dc + 1 ≤ d ∧ maxL ≤ 45) (hst : st0 = As.reverse ++ st) (hw : st.length ≤ 8) (hf : k + mc ≤ MC ∧ n + ms ≤ MS) (hdg : decode cc pc = .ok (.invokestatic i, 3))
    (kk : G X cx nL Q (k + mc) (n + ms) m' (nx + mc) L (rv.toList ++ st) (pc + 3)) : G X cx nL Q k n m nx L st0 pc := by
  intro H locs ls hP hL hll
  subst hst
  exact G_after (va_runS (As := As.map tv) (rest := st.map tv) (fixS F) hM (va_cwS As.length F.2.2.2.2.2.2.1 hG rfl rfl rfl hd (fixR F hl)) ⟨blind, pre_of F hP As⟩ rfl (by simp) (by exact hll.1) (by simp) (by rw [st_sum]; show 2 * 0 + st.length ≤ 8; omega) hdg (fixC F hf)) hL hll kk
theorem G_callI (F : Fix X cx own cc nL ret nm d MC MS) {b : Nat} (hM : Con X dc y bytes maxL none (.inr (some b) :: As) m nx rv m' mc ms) (hcode : Cond.code y bytes maxL none ∈ lw_all) (hini : Cond.initialized y.cls ∈ lw_all) (hlk : Cond.methodLink own i y ∈ lw_all) (hins : Cond.instanceMethod y ∈ lw_all) (hnm : y.name = "<init>")
    (hd : y.cls ≠ "java/lang/invoke/MethodHandle" ∧ y.cls ≠ "java/lang/invoke/VarHandle" ∧ (parseMethodDescriptor y.desc).map (fun d => d.parameters.length) = some As.length) (hl : dc + 1 ≤ d ∧ maxL ≤ 45) (hst : st0 = As.reverse ++ .inr (some b) :: st) (hw : st.length ≤ 8) (hf : k + mc ≤ MC ∧ n + ms ≤ MS) (hdg : decode cc pc = .ok (.invokespecial i, 3))
    (kk : G X cx nL Q (k + mc) (n + ms) m' (nx + mc) L (rv.toList ++ st) (pc + 3)) : G X cx nL Q k n m nx L st0 pc := by
  intro H locs ls hP hL hll
  subst hst
  have hts := F.2.2.2.2.2.2.1
  exact G_after (va_runI (As := As.map tv) (rest := st.map tv) (b := b) (fixS F) hM (cwI As.length hts (lw_meth hcode) rfl rfl rfl (hts _ hini) (hts _ hlk) (hts _ hins) hnm hd (fixR F hl)) ⟨blind, pre_of F hP (.inr (some b) :: As)⟩ rfl (by simp) (by exact hll.1) (by simp [tv]) (by rw [st_sum]; show 2 * 0 + st.length ≤ 8; omega) hdg (fixC F hf)) hL hll kk
theorem G_callVN (F : Fix X cx own cc nL ret nm d MC MS) {host : String} (hM : Con X dc y bytes maxL rt (.inr r :: As) m nx rv m' mc ms) (hc : hp_cls m r = some ci) {q : vw_C} (hq : vwCl[ci]? = some q) (hqc : q.1 = y.cls) (hcode : Cond.code y bytes maxL rt ∈ lw_all) (hini : Cond.initialized y.cls ∈ lw_all) (hlk : Cond.methodLinkNest own i y host ∈ lw_tbl) (hins : Cond.instanceMethod y ∈ lw_all) (hsel : Cond.selects y.cls y y ∈ lw_all)
    (hd : y.cls ≠ "java/lang/invoke/MethodHandle" ∧ y.cls ≠ "java/lang/invoke/VarHandle" ∧ (parseMethodDescriptor y.desc).map (fun d => d.parameters.length) = some As.length) (hl : dc + 1 ≤ d ∧ maxL ≤ 45) (hst : st0 = As.reverse ++ .inr r :: st) (hw : st.length ≤ 8) (hf : k + mc ≤ MC ∧ n + ms ≤ MS) (hdg : decode cc pc = .ok (.invokevirtual i, 3))
    (kk : G X cx nL Q (k + mc) (n + ms) m' (nx + mc) L (rv.toList ++ st) (pc + 3)) : G X cx nL Q k n m nx L st0 pc := by
  intro H locs ls hP hL hll
  obtain ⟨b, fs, rfl, hm⟩ := hp_cls_of hc
  subst hst
  have hts := F.2.2.2.2.2.2.1
  exact G_after (va_runVN (As := As.map tv) (rest := st.map tv) (b := b) (C := y.cls) (fixS F) hM ⟨va_cnB As.length hts (lw_meth hcode) rfl rfl rfl (F.2.2.2.2.2.2.2.1.2.1.2.1 _ _ _ _ hlk) (hts _ hini) hd (fixR F hl), hts _ hins, hts _ hsel⟩ ⟨blind, by rw [← hqc]; exact mt_recv F hP hq hm, pre_of F hP (.inr (some b) :: As)⟩ rfl (by simp) (by exact hll.1) (by simp [tv]) (by rw [st_sum]; show 2 * 0 + st.length ≤ 8; omega) hdg (fixC F hf)) hL hll kk
theorem G_callSN (F : Fix X cx own cc nL ret nm d MC MS) {host : String} (hM : Con X dc y bytes maxL rt As m nx rv m' mc ms) (hcode : Cond.code y bytes maxL rt ∈ lw_all) (hini : Cond.initialized y.cls ∈ lw_all) (hlk : Cond.methodLinkNest own i y host ∈ lw_tbl) (hstat : Cond.static y ∈ lw_all)
    (hd : y.cls ≠ "java/lang/invoke/MethodHandle" ∧ y.cls ≠ "java/lang/invoke/VarHandle" ∧ (parseMethodDescriptor y.desc).map (fun d => d.parameters.length) = some As.length) (hl : dc + 1 ≤ d ∧ maxL ≤ 45) (hst : st0 = As.reverse ++ st) (hw : st.length ≤ 8) (hf : k + mc ≤ MC ∧ n + ms ≤ MS) (hdg : decode cc pc = .ok (.invokestatic i, 3))
    (kk : G X cx nL Q (k + mc) (n + ms) m' (nx + mc) L (rv.toList ++ st) (pc + 3)) : G X cx nL Q k n m nx L st0 pc := by
  intro H locs ls hP hL hll
  subst hst
  have hts := F.2.2.2.2.2.2.1
  exact G_after (va_runSN (As := As.map tv) (rest := st.map tv) (fixS F) hM ⟨va_cnB As.length hts (lw_meth hcode) rfl rfl rfl (F.2.2.2.2.2.2.2.1.2.1.2.1 _ _ _ _ hlk) (hts _ hini) hd (fixR F hl), hts _ hstat, trivial⟩ ⟨blind, pre_of F hP As⟩ rfl (by simp) (by exact hll.1) (by simp) (by rw [st_sum]; show 2 * 0 + st.length ≤ 8; omega) hdg (fixC F hf)) hL hll kk
theorem G_callIN (F : Fix X cx own cc nL ret nm d MC MS) {b : Nat} {host : String} (hM : Con X dc y bytes maxL none (.inr (some b) :: As) m nx rv m' mc ms) (hcode : Cond.code y bytes maxL none ∈ lw_all) (hini : Cond.initialized y.cls ∈ lw_all) (hlk : Cond.methodLinkNest own i y host ∈ lw_tbl) (hins : Cond.instanceMethod y ∈ lw_all) (hnm : y.name = "<init>")
    (hd : y.cls ≠ "java/lang/invoke/MethodHandle" ∧ y.cls ≠ "java/lang/invoke/VarHandle" ∧ (parseMethodDescriptor y.desc).map (fun d => d.parameters.length) = some As.length) (hl : dc + 1 ≤ d ∧ maxL ≤ 45) (hst : st0 = As.reverse ++ .inr (some b) :: st) (hw : st.length ≤ 8) (hf : k + mc ≤ MC ∧ n + ms ≤ MS) (hdg : decode cc pc = .ok (.invokespecial i, 3))
    (kk : G X cx nL Q (k + mc) (n + ms) m' (nx + mc) L (rv.toList ++ st) (pc + 3)) : G X cx nL Q k n m nx L st0 pc := by
  intro H locs ls hP hL hll
  subst hst
  have hts := F.2.2.2.2.2.2.1
  exact G_after (va_runIN (As := As.map tv) (rest := st.map tv) (b := b) (fixS F) hM ⟨va_cnB As.length hts (lw_meth hcode) rfl rfl rfl (F.2.2.2.2.2.2.2.1.2.1.2.1 _ _ _ _ hlk) (hts _ hini) hd (fixR F hl), hnm, hts _ hins⟩ ⟨blind, pre_of F hP (.inr (some b) :: As)⟩ rfl (by simp) (by exact hll.1) (by simp [tv]) (by rw [st_sum]; show 2 * 0 + st.length ≤ 8; omega) hdg (fixC F hf)) hL hll kk
/-- an inherited method (x names it, y is it) -/
theorem G_callU (F : Fix X cx own cc nL ret nm d MC MS) {owner : String} {x : MethodName} (hM : Con X dc y bytes maxL rt (.inr r :: As) m nx rv m' mc ms) (hc : hp_cls m r = some ci) {q : vw_C} (hq : vwCl[ci]? = some q) (hG : GoodIn lw_all (va_wsU own i q.1 owner x y (ws_ y bytes maxL rt))) (hyx : y = ⟨owner, x.name, x.desc⟩)
    (hd : owner ≠ "java/lang/invoke/MethodHandle" ∧ owner ≠ "java/lang/invoke/VarHandle" ∧ (parseMethodDescriptor x.desc).map (fun d => d.parameters.length) = some As.length) (hl : dc + 1 ≤ d ∧ maxL ≤ 45) (hst : st0 = As.reverse ++ .inr r :: st) (hw : st.length ≤ 8) (hf : k + mc ≤ MC ∧ n + ms ≤ MS) (hdg : decode cc pc = .ok (.invokevirtual i, 3))
    (kk : G X cx nL Q (k + mc) (n + ms) m' (nx + mc) L (rv.toList ++ st) (pc + 3)) : G X cx nL Q k n m nx L st0 pc := by
  intro H locs ls hP hL hll
  obtain ⟨b, fs, rfl, hm⟩ := hp_cls_of hc
  subst hst
  exact G_after (va_runU (As := As.map tv) (rest := st.map tv) (b := b) (C := q.1) (fixS F) hM (va_cwU As.length F.2.2.2.2.2.2.1 hG rfl rfl rfl hyx hd (fixR F hl)) ⟨blind, mt_recv F hP hq hm, pre_of F hP (.inr (some b) :: As)⟩ rfl (by simp) (by exact hll.1) (by simp [tv]) (by rw [st_sum]; show 2 * 0 + st.length ≤ 8; omega) hdg (fixC F hf)) hL hll kk
/-- an abstract method (x names it, the receiver's class has y) -/
theorem G_callA (F : Fix X cx own cc nL ret nm d MC MS) {owner : String} {x : MethodName} (hM : Con X dc y bytes maxL rt (.inr r :: As) m nx rv m' mc ms) (hc : hp_cls m r = some ci) {q : vw_C} (hq : vwCl[ci]? = some q) (hG : GoodIn lw_all (va_wsU own i q.1 owner x y (ws_ y bytes maxL rt))) (hz : Cond.declares ⟨owner, x.name, x.desc⟩ ∈ lw_tbl)
    (hd : owner ≠ "java/lang/invoke/MethodHandle" ∧ owner ≠ "java/lang/invoke/VarHandle" ∧ (parseMethodDescriptor x.desc).map (fun d => d.parameters.length) = some As.length) (hl : dc + 1 ≤ d ∧ maxL ≤ 45) (hst : st0 = As.reverse ++ .inr r :: st) (hw : st.length ≤ 8) (hf : k + mc ≤ MC ∧ n + ms ≤ MS) (hdg : decode cc pc = .ok (.invokevirtual i, 3))
    (kk : G X cx nL Q (k + mc) (n + ms) m' (nx + mc) L (rv.toList ++ st) (pc + 3)) : G X cx nL Q k n m nx L st0 pc := by
  intro H locs ls hP hL hll
  obtain ⟨b, fs, rfl, hm⟩ := hp_cls_of hc
  subst hst
  exact G_after (va_runU (As := As.map tv) (rest := st.map tv) (b := b) (C := q.1) (fixS F) hM (va_cwA As.length F.2.2.2.2.2.2.1 hG rfl rfl rfl (F.2.2.2.2.2.2.2.1.2.1.2.2.2.1 _ hz) hd (fixR F hl)) ⟨blind, mt_recv F hP hq hm, pre_of F hP (.inr (some b) :: As)⟩ rfl (by simp) (by exact hll.1) (by simp [tv]) (by rw [st_sum]; show 2 * 0 + st.length ≤ 8; omega) hdg (fixC F hf)) hL hll kk
theorem G_mmax (F : Fix X cx own cc nL ret nm d MC MS) {x y : Int32} (q1 : Cond.methodLink own i Lib.Math.max.name ∈ lw_all) (q2 : Cond.static Lib.Math.max.name ∈ lw_all) (q3 : Cond.initialized "java/lang/Math" ∈ lw_all) (q4 : Cond.code Lib.Math.max.name Lib.Math.max.code 2 (some .int) ∈ lw_all) (hl : 1 ≤ d) (hw : st.length ≤ 8) (hk : k ≤ MC ∧ n ≤ MS) (hdg : decode cc pc = .ok (.invokestatic i, 3)) (kk : G X cx nL Q k n m nx L (.inl (jmax x y) :: st) (pc + 3)) : G X cx nL Q k n m nx L (.inl y :: .inl x :: st) pc := by
  intro H locs ls hP hL hll
  have hts := F.2.2.2.2.2.2.1
  have hR := F.2.2.2.2.2.2.2.2.1
  exact va_mmax F.1 F.2.1 (by rw [F.2.2.2.2.1]; exact hll.1.symm) F.2.2.2.2.2.1 (hts _ q1) (hts _ q2) (hts _ q3) (hts _ q4) (Nat.le_trans hl hR.1) (by rw [st_sum]; omega) (Nat.le_trans hk.1 hR.2.2.1) (Nat.le_trans hk.2 hR.2.2.2) hdg (kk H locs ls hP hL hll)
theorem G_mmin (F : Fix X cx own cc nL ret nm d MC MS) {x y : Int32} (q1 : Cond.methodLink own i Lib.Math.min.name ∈ lw_all) (q2 : Cond.static Lib.Math.min.name ∈ lw_all) (q3 : Cond.initialized "java/lang/Math" ∈ lw_all) (q4 : Cond.code Lib.Math.min.name Lib.Math.min.code 2 (some .int) ∈ lw_all) (hl : 1 ≤ d) (hw : st.length ≤ 8) (hk : k ≤ MC ∧ n ≤ MS) (hdg : decode cc pc = .ok (.invokestatic i, 3)) (kk : G X cx nL Q k n m nx L (.inl (jmin x y) :: st) (pc + 3)) : G X cx nL Q k n m nx L (.inl y :: .inl x :: st) pc := by
  intro H locs ls hP hL hll
  have hts := F.2.2.2.2.2.2.1
  have hR := F.2.2.2.2.2.2.2.2.1
  exact va_mmin F.1 F.2.1 (by rw [F.2.2.2.2.1]; exact hll.1.symm) F.2.2.2.2.2.1 (hts _ q1) (hts _ q2) (hts _ q3) (hts _ q4) (Nat.le_trans hl hR.1) (by rw [st_sum]; omega) (Nat.le_trans hk.1 hR.2.2.1) (Nat.le_trans hk.2 hR.2.2.2) hdg (kk H locs ls hP hL hll)
theorem G_callVv {w : Vl} (F : Fix X cx own cc nL ret nm d MC MS) (hM : Con X dc y bytes maxL rt (.inr r :: As) m nx (some w) m' mc ms) (hc : hp_cls m r = some ci) {q : vw_C} (hq : vwCl[ci]? = some q) (hqc : q.1 = y.cls) (hG : GoodIn lw_all (wsV own i y.cls y (ws_ y bytes maxL rt)))
    (hd : y.cls ≠ "java/lang/invoke/MethodHandle" ∧ y.cls ≠ "java/lang/invoke/VarHandle" ∧ (parseMethodDescriptor y.desc).map (fun d => d.parameters.length) = some As.length) (hl : dc + 1 ≤ d ∧ maxL ≤ 45) (hst : st0 = As.reverse ++ .inr r :: st) (hw : st.length ≤ 8) (hf : k + mc ≤ MC ∧ n + ms ≤ MS) (hdg : decode cc pc = .ok (.invokevirtual i, 3))
    (kk : G X cx nL Q (k + mc) (n + ms) m' (nx + mc) L (w :: st) (pc + 3)) : G X cx nL Q k n m nx L st0 pc := G_callV F hM hc hq hqc hG hd hl hst hw hf hdg kk
theorem G_callV0  (F : Fix X cx own cc nL ret nm d MC MS) (hM : Con X dc y bytes maxL rt (.inr r :: As) m nx none m' mc ms) (hc : hp_cls m r = some ci) {q : vw_C} (hq : vwCl[ci]? = some q) (hqc : q.1 = y.cls) (hG : GoodIn lw_all (wsV own i y.cls y (ws_ y bytes maxL rt)))
    (hd : y.cls ≠ "java/lang/invoke/MethodHandle" ∧ y.cls ≠ "java/lang/invoke/VarHandle" ∧ (parseMethodDescriptor y.desc).map (fun d => d.parameters.length) = some As.length) (hl : dc + 1 ≤ d ∧ maxL ≤ 45) (hst : st0 = As.reverse ++ .inr r :: st) (hw : st.length ≤ 8) (hf : k + mc ≤ MC ∧ n + ms ≤ MS) (hdg : decode cc pc = .ok (.invokevirtual i, 3))
    (kk : G X cx nL Q (k + mc) (n + ms) m' (nx + mc) L st (pc + 3)) : G X cx nL Q k n m nx L st0 pc := G_callV F hM hc hq hqc hG hd hl hst hw hf hdg kk
theorem G_callSv {w : Vl} (F : Fix X cx own cc nL ret nm d MC MS) (hM : Con X dc y bytes maxL rt As m nx (some w) m' mc ms) (hG : GoodIn lw_all (va_wsS own i y (ws_ y bytes maxL rt)))
    (hd : y.cls ≠ "java/lang/invoke/MethodHandle" ∧ y.cls ≠ "java/lang/invoke/VarHandle" ∧ (parseMethodDescriptor y.desc).map (fun d => d.parameters.length) = some As.length) (hl : dc + 1 ≤ d ∧ maxL ≤ 45) (hst : st0 = As.reverse ++ st) (hw : st.length ≤ 8) (hf : k + mc ≤ MC ∧ n + ms ≤ MS) (hdg : decode cc pc = .ok (.invokestatic i, 3))
    (kk : G X cx nL Q (k + mc) (n + ms) m' (nx + mc) L (w :: st) (pc + 3)) : G X cx nL Q k n m nx L st0 pc := G_callS F hM hG hd hl hst hw hf hdg kk
theorem G_callS0  (F : Fix X cx own cc nL ret nm d MC MS) (hM : Con X dc y bytes maxL rt As m nx none m' mc ms) (hG : GoodIn lw_all (va_wsS own i y (ws_ y bytes maxL rt)))
    (hd : y.cls ≠ "java/lang/invoke/MethodHandle" ∧ y.cls ≠ "java/lang/invoke/VarHandle" ∧ (parseMethodDescriptor y.desc).map (fun d => d.parameters.length) = some As.length) (hl : dc + 1 ≤ d ∧ maxL ≤ 45) (hst : st0 = As.reverse ++ st) (hw : st.length ≤ 8) (hf : k + mc ≤ MC ∧ n + ms ≤ MS) (hdg : decode cc pc = .ok (.invokestatic i, 3))
    (kk : G X cx nL Q (k + mc) (n + ms) m' (nx + mc) L st (pc + 3)) : G X cx nL Q k n m nx L st0 pc := G_callS F hM hG hd hl hst hw hf hdg kk
theorem G_callI0  (F : Fix X cx own cc nL ret nm d MC MS) {b : Nat} (hM : Con X dc y bytes maxL none (.inr (some b) :: As) m nx none m' mc ms) (hcode : Cond.code y bytes maxL none ∈ lw_all) (hini : Cond.initialized y.cls ∈ lw_all) (hlk : Cond.methodLink own i y ∈ lw_all) (hins : Cond.instanceMethod y ∈ lw_all) (hnm : y.name = "<init>")
    (hd : y.cls ≠ "java/lang/invoke/MethodHandle" ∧ y.cls ≠ "java/lang/invoke/VarHandle" ∧ (parseMethodDescriptor y.desc).map (fun d => d.parameters.length) = some As.length) (hl : dc + 1 ≤ d ∧ maxL ≤ 45) (hst : st0 = As.reverse ++ .inr (some b) :: st) (hw : st.length ≤ 8) (hf : k + mc ≤ MC ∧ n + ms ≤ MS) (hdg : decode cc pc = .ok (.invokespecial i, 3))
    (kk : G X cx nL Q (k + mc) (n + ms) m' (nx + mc) L st (pc + 3)) : G X cx nL Q k n m nx L st0 pc := G_callI F hM hcode hini hlk hins hnm hd hl hst hw hf hdg kk
theorem G_callVNv {w : Vl} (F : Fix X cx own cc nL ret nm d MC MS) {host : String} (hM : Con X dc y bytes maxL rt (.inr r :: As) m nx (some w) m' mc ms) (hc : hp_cls m r = some ci) {q : vw_C} (hq : vwCl[ci]? = some q) (hqc : q.1 = y.cls) (hcode : Cond.code y bytes maxL rt ∈ lw_all) (hini : Cond.initialized y.cls ∈ lw_all) (hlk : Cond.methodLinkNest own i y host ∈ lw_tbl) (hins : Cond.instanceMethod y ∈ lw_all) (hsel : Cond.selects y.cls y y ∈ lw_all)
    (hd : y.cls ≠ "java/lang/invoke/MethodHandle" ∧ y.cls ≠ "java/lang/invoke/VarHandle" ∧ (parseMethodDescriptor y.desc).map (fun d => d.parameters.length) = some As.length) (hl : dc + 1 ≤ d ∧ maxL ≤ 45) (hst : st0 = As.reverse ++ .inr r :: st) (hw : st.length ≤ 8) (hf : k + mc ≤ MC ∧ n + ms ≤ MS) (hdg : decode cc pc = .ok (.invokevirtual i, 3))
    (kk : G X cx nL Q (k + mc) (n + ms) m' (nx + mc) L (w :: st) (pc + 3)) : G X cx nL Q k n m nx L st0 pc := G_callVN F hM hc hq hqc hcode hini hlk hins hsel hd hl hst hw hf hdg kk
theorem G_callVN0  (F : Fix X cx own cc nL ret nm d MC MS) {host : String} (hM : Con X dc y bytes maxL rt (.inr r :: As) m nx none m' mc ms) (hc : hp_cls m r = some ci) {q : vw_C} (hq : vwCl[ci]? = some q) (hqc : q.1 = y.cls) (hcode : Cond.code y bytes maxL rt ∈ lw_all) (hini : Cond.initialized y.cls ∈ lw_all) (hlk : Cond.methodLinkNest own i y host ∈ lw_tbl) (hins : Cond.instanceMethod y ∈ lw_all) (hsel : Cond.selects y.cls y y ∈ lw_all)
    (hd : y.cls ≠ "java/lang/invoke/MethodHandle" ∧ y.cls ≠ "java/lang/invoke/VarHandle" ∧ (parseMethodDescriptor y.desc).map (fun d => d.parameters.length) = some As.length) (hl : dc + 1 ≤ d ∧ maxL ≤ 45) (hst : st0 = As.reverse ++ .inr r :: st) (hw : st.length ≤ 8) (hf : k + mc ≤ MC ∧ n + ms ≤ MS) (hdg : decode cc pc = .ok (.invokevirtual i, 3))
    (kk : G X cx nL Q (k + mc) (n + ms) m' (nx + mc) L st (pc + 3)) : G X cx nL Q k n m nx L st0 pc := G_callVN F hM hc hq hqc hcode hini hlk hins hsel hd hl hst hw hf hdg kk
theorem G_callSNv {w : Vl} (F : Fix X cx own cc nL ret nm d MC MS) {host : String} (hM : Con X dc y bytes maxL rt As m nx (some w) m' mc ms) (hcode : Cond.code y bytes maxL rt ∈ lw_all) (hini : Cond.initialized y.cls ∈ lw_all) (hlk : Cond.methodLinkNest own i y host ∈ lw_tbl) (hstat : Cond.static y ∈ lw_all)
    (hd : y.cls ≠ "java/lang/invoke/MethodHandle" ∧ y.cls ≠ "java/lang/invoke/VarHandle" ∧ (parseMethodDescriptor y.desc).map (fun d => d.parameters.length) = some As.length) (hl : dc + 1 ≤ d ∧ maxL ≤ 45) (hst : st0 = As.reverse ++ st) (hw : st.length ≤ 8) (hf : k + mc ≤ MC ∧ n + ms ≤ MS) (hdg : decode cc pc = .ok (.invokestatic i, 3))
    (kk : G X cx nL Q (k + mc) (n + ms) m' (nx + mc) L (w :: st) (pc + 3)) : G X cx nL Q k n m nx L st0 pc := G_callSN F hM hcode hini hlk hstat hd hl hst hw hf hdg kk
theorem G_callSN0  (F : Fix X cx own cc nL ret nm d MC MS) {host : String} (hM : Con X dc y bytes maxL rt As m nx none m' mc ms) (hcode : Cond.code y bytes maxL rt ∈ lw_all) (hini : Cond.initialized y.cls ∈ lw_all) (hlk : Cond.methodLinkNest own i y host ∈ lw_tbl) (hstat : Cond.static y ∈ lw_all)
    (hd : y.cls ≠ "java/lang/invoke/MethodHandle" ∧ y.cls ≠ "java/lang/invoke/VarHandle" ∧ (parseMethodDescriptor y.desc).map (fun d => d.parameters.length) = some As.length) (hl : dc + 1 ≤ d ∧ maxL ≤ 45) (hst : st0 = As.reverse ++ st) (hw : st.length ≤ 8) (hf : k + mc ≤ MC ∧ n + ms ≤ MS) (hdg : decode cc pc = .ok (.invokestatic i, 3))
    (kk : G X cx nL Q (k + mc) (n + ms) m' (nx + mc) L st (pc + 3)) : G X cx nL Q k n m nx L st0 pc := G_callSN F hM hcode hini hlk hstat hd hl hst hw hf hdg kk
theorem G_callIN0  (F : Fix X cx own cc nL ret nm d MC MS) {b : Nat} {host : String} (hM : Con X dc y bytes maxL none (.inr (some b) :: As) m nx none m' mc ms) (hcode : Cond.code y bytes maxL none ∈ lw_all) (hini : Cond.initialized y.cls ∈ lw_all) (hlk : Cond.methodLinkNest own i y host ∈ lw_tbl) (hins : Cond.instanceMethod y ∈ lw_all) (hnm : y.name = "<init>")
    (hd : y.cls ≠ "java/lang/invoke/MethodHandle" ∧ y.cls ≠ "java/lang/invoke/VarHandle" ∧ (parseMethodDescriptor y.desc).map (fun d => d.parameters.length) = some As.length) (hl : dc + 1 ≤ d ∧ maxL ≤ 45) (hst : st0 = As.reverse ++ .inr (some b) :: st) (hw : st.length ≤ 8) (hf : k + mc ≤ MC ∧ n + ms ≤ MS) (hdg : decode cc pc = .ok (.invokespecial i, 3))
    (kk : G X cx nL Q (k + mc) (n + ms) m' (nx + mc) L st (pc + 3)) : G X cx nL Q k n m nx L st0 pc := G_callIN F hM hcode hini hlk hins hnm hd hl hst hw hf hdg kk
theorem G_callUv {w : Vl} (F : Fix X cx own cc nL ret nm d MC MS) {owner : String} {x : MethodName} (hM : Con X dc y bytes maxL rt (.inr r :: As) m nx (some w) m' mc ms) (hc : hp_cls m r = some ci) {q : vw_C} (hq : vwCl[ci]? = some q) (hG : GoodIn lw_all (va_wsU own i q.1 owner x y (ws_ y bytes maxL rt))) (hyx : y = ⟨owner, x.name, x.desc⟩)
    (hd : owner ≠ "java/lang/invoke/MethodHandle" ∧ owner ≠ "java/lang/invoke/VarHandle" ∧ (parseMethodDescriptor x.desc).map (fun d => d.parameters.length) = some As.length) (hl : dc + 1 ≤ d ∧ maxL ≤ 45) (hst : st0 = As.reverse ++ .inr r :: st) (hw : st.length ≤ 8) (hf : k + mc ≤ MC ∧ n + ms ≤ MS) (hdg : decode cc pc = .ok (.invokevirtual i, 3))
    (kk : G X cx nL Q (k + mc) (n + ms) m' (nx + mc) L (w :: st) (pc + 3)) : G X cx nL Q k n m nx L st0 pc := G_callU F hM hc hq hG hyx hd hl hst hw hf hdg kk
theorem G_callU0  (F : Fix X cx own cc nL ret nm d MC MS) {owner : String} {x : MethodName} (hM : Con X dc y bytes maxL rt (.inr r :: As) m nx none m' mc ms) (hc : hp_cls m r = some ci) {q : vw_C} (hq : vwCl[ci]? = some q) (hG : GoodIn lw_all (va_wsU own i q.1 owner x y (ws_ y bytes maxL rt))) (hyx : y = ⟨owner, x.name, x.desc⟩)
    (hd : owner ≠ "java/lang/invoke/MethodHandle" ∧ owner ≠ "java/lang/invoke/VarHandle" ∧ (parseMethodDescriptor x.desc).map (fun d => d.parameters.length) = some As.length) (hl : dc + 1 ≤ d ∧ maxL ≤ 45) (hst : st0 = As.reverse ++ .inr r :: st) (hw : st.length ≤ 8) (hf : k + mc ≤ MC ∧ n + ms ≤ MS) (hdg : decode cc pc = .ok (.invokevirtual i, 3))
    (kk : G X cx nL Q (k + mc) (n + ms) m' (nx + mc) L st (pc + 3)) : G X cx nL Q k n m nx L st0 pc := G_callU F hM hc hq hG hyx hd hl hst hw hf hdg kk
theorem G_callAv {w : Vl} (F : Fix X cx own cc nL ret nm d MC MS) {owner : String} {x : MethodName} (hM : Con X dc y bytes maxL rt (.inr r :: As) m nx (some w) m' mc ms) (hc : hp_cls m r = some ci) {q : vw_C} (hq : vwCl[ci]? = some q) (hG : GoodIn lw_all (va_wsU own i q.1 owner x y (ws_ y bytes maxL rt))) (hz : Cond.declares ⟨owner, x.name, x.desc⟩ ∈ lw_tbl)
    (hd : owner ≠ "java/lang/invoke/MethodHandle" ∧ owner ≠ "java/lang/invoke/VarHandle" ∧ (parseMethodDescriptor x.desc).map (fun d => d.parameters.length) = some As.length) (hl : dc + 1 ≤ d ∧ maxL ≤ 45) (hst : st0 = As.reverse ++ .inr r :: st) (hw : st.length ≤ 8) (hf : k + mc ≤ MC ∧ n + ms ≤ MS) (hdg : decode cc pc = .ok (.invokevirtual i, 3))
    (kk : G X cx nL Q (k + mc) (n + ms) m' (nx + mc) L (w :: st) (pc + 3)) : G X cx nL Q k n m nx L st0 pc := G_callA F hM hc hq hG hz hd hl hst hw hf hdg kk
theorem G_callA0  (F : Fix X cx own cc nL ret nm d MC MS) {owner : String} {x : MethodName} (hM : Con X dc y bytes maxL rt (.inr r :: As) m nx none m' mc ms) (hc : hp_cls m r = some ci) {q : vw_C} (hq : vwCl[ci]? = some q) (hG : GoodIn lw_all (va_wsU own i q.1 owner x y (ws_ y bytes maxL rt))) (hz : Cond.declares ⟨owner, x.name, x.desc⟩ ∈ lw_tbl)
    (hd : owner ≠ "java/lang/invoke/MethodHandle" ∧ owner ≠ "java/lang/invoke/VarHandle" ∧ (parseMethodDescriptor x.desc).map (fun d => d.parameters.length) = some As.length) (hl : dc + 1 ≤ d ∧ maxL ≤ 45) (hst : st0 = As.reverse ++ .inr r :: st) (hw : st.length ≤ 8) (hf : k + mc ≤ MC ∧ n + ms ≤ MS) (hdg : decode cc pc = .ok (.invokevirtual i, 3))
    (kk : G X cx nL Q (k + mc) (n + ms) m' (nx + mc) L st (pc + 3)) : G X cx nL Q k n m nx L st0 pc := G_callA F hM hc hq hG hz hd hl hst hw hf hdg kk
end CALL
section MORE
variable {X : Gx} {cx : Cx} {own nm : String} {cc : ByteArray} {nL : Nat} {ret : Option FieldType} {d MC MS : Nat} {Q : State → Prop} {k n : Nat} {m : Hp} {nx : Nat} {L : List (Option Vl)} {st : List Vl} {pc : Nat}
theorem G_newc (F : Fix X cx own cc nL ret nm d MC MS) {ci N : Nat} {C : String} {T : u_T} {ty : Nat → FieldType} (K : ClOK ci C T N ty) {i : Nat} {fs : List Vl} {m2 : Hp} (q1 : Cond.classLink own i C ∈ lw_all) (q2 : Cond.instantiable C N ∈ lw_all) (q3 : Cond.initialized C ∈ lw_all) (hfs : ∀ j, j < N → defaultValue (ty j) = vp_V (fs.map tv) j) (hc : k + 1 ≤ MC) (hs : n + N ≤ MS) (hdg : decode cc pc = .ok (.new i, 3)) (e : some (hp_set m nx (.inr (ci, fs))) = some m2) (kk : G X cx nL Q (k + 1) (n + N) m2 (nx + 1) L (.inr (some nx) :: st) (pc + 3)) : G X cx nL Q k n m nx L st pc := by
  cases e
  exact G_new F K q1 q2 q3 hfs hc hs hdg kk
theorem G_newac (F : Fix X cx own cc nL ret nm d MC MS) {t N : Nat} {atype : ArrayType} {v : Int32} {m2 : Hp} (q1 : Cond.arrayClass (tysT t) ∈ lw_all) (hat : newarray.typeOf atype = tysT t) (ht : t < 3) (hv : ¬ v < 0) (hN : v.toNatClampNeg = N) (hB : N ≤ 100000) (hc : k + 1 ≤ MC) (hs : n + N ≤ MS) (hdg : decode cc pc = .ok (.newarray atype, 2)) (e : some (hp_newa m nx t N) = some m2) (kk : G X cx nL Q (k + 1) (n + N) m2 (nx + 1) L (.inr (some nx) :: st) (pc + 2)) : G X cx nL Q k n m nx L (.inl v :: st) pc := by
  cases e
  exact G_newa F q1 hat ht hv hN hB hc hs hdg kk
theorem G_newrc (F : Fix X cx own cc nL ret nm d MC MS) {t N i : Nat} {C : String} {v : Int32} {m2 : Hp} (q1 : Cond.classLink own i C ∈ lw_all) (q2 : Cond.arrayOver (.object C) ∈ lw_tbl) (hat : tysT t = .object C) (ht : t < 8) (hv : ¬ v < 0) (hN : v.toNatClampNeg = N) (hB : N ≤ 100000) (hc : k + 1 ≤ MC) (hs : n + N ≤ MS) (hdg : decode cc pc = .ok (.anewarray i, 3)) (e : some (hp_newr m nx t N) = some m2) (kk : G X cx nL Q (k + 1) (n + N) m2 (nx + 1) L (.inr (some nx) :: st) (pc + 3)) : G X cx nL Q k n m nx L (.inl v :: st) pc := by
  cases e
  exact G_newr F q1 q2 hat ht hv hN hB hc hs hdg kk
theorem G_tabDef (F : Fix X cx own cc nL ret nm d MC MS) {dflt lo hi : Int} {offs : Array Int} {len : Nat} {x : Int32} {tgt : Nat} (hdg : decode cc pc = .ok (.tableswitch dflt lo hi offs, len)) (ks : List Int32) (hks : ∀ j, j < offs.size → offs[j]? = some dflt ∨ ∃ a ∈ ks, a.toInt = lo + (j : Int)) (hsz : (offs.size : Int) = hi - lo + 1) (hx : ∀ a ∈ ks, ¬ x = a) (ht : (pc : Int) + dflt = (tgt : Int)) (kk : G X cx nL Q k n m nx L st tgt) : G X cx nL Q k n m nx L (.inl x :: st) pc := by
  by_cases h1 : x.toInt < lo
  · exact G_tabOut F hdg (Or.inl h1) ht kk
  by_cases h2 : hi < x.toInt
  · exact G_tabOut F hdg (Or.inr h2) ht kk
  have hj : (x.toInt - lo).toNat < offs.size := by omega
  rcases hks _ hj with h | ⟨a, ha, e⟩
  · exact G_tabIn F hdg h1 h2 h ht kk
  · exact absurd (Int32.toInt_inj.mp (by omega)) (hx a ha)
theorem fa_nil {α : Type} {P : α → Prop} : ∀ a ∈ ([] : List α), P a := fun a h => nomatch h
theorem G_cnt {k2 n2 nx2 : Nat} (kk : G X cx nL Q k2 n2 m nx2 L st pc) (hk : k = k2) (hn : n = n2) (hx : nx = nx2) : G X cx nL Q k n m nx L st pc := by
  subst hk; subst hn; subst hx
  exact kk
theorem G_zretz (F : Fix X cx own cc nL ret nm d MC MS) {z v : Int32} {nx0 mc ms : Nat} (hr : ret = some .boolean) (hz : z = v ∧ (v = 0 ∨ v = 1)) (hk : k ≤ mc) (hn : n ≤ ms) (hx : nx = nx0 + mc) (hdg : decode cc pc = .ok (.ireturn, 1)) : G X cx nL (Qm X cx (some (.inl z)) m nx0 mc ms) k n m nx L [.inl v] pc := by
  obtain ⟨rfl, hz⟩ := hz
  exact G_zret F hr hz hk hn hx hdg
theorem ent_of {args : List Vl} {L : List (Option Vl)} (z : Nat) (h : L = args.map some ++ List.replicate z none) : ∀ (j : Nat) (v : Vl), L[j]? = some (some v) → args[j]? = some v := by
  intro j v hj
  subst h
  by_cases hl : j < args.length
  · rw [List.getElem?_append_left (by simpa using hl), List.getElem?_map] at hj
    cases h2 : args[j]? with
    | none => rw [h2] at hj; cases hj
    | some w => rw [h2] at hj; cases hj; rfl
  · rw [List.getElem?_append_right (by simpa using hl)] at hj
    simp [List.getElem?_replicate] at hj
end MORE
section STR
variable {X : Gx} {cx : Cx} {own nm : String} {cc : ByteArray} {nL : Nat} {ret : Option FieldType} {d MC MS : Nat} {Q : State → Prop} {k n : Nat} {m : Hp} {nx : Nat} {L : List (Option Vl)} {st : List Vl} {pc : Nat}
def strB (i : Nat) : List Int32 := bytB.getD i []
theorem PH.old {H : Heap} (hP : PH X m nx H) : ∀ a : Nat, a < X.2.2.2.2.1.size → ¬ (X.2.2.2.1 ≤ a) → H[a]? = X.2.2.2.2.1[a]? := fun a _ h => hP.2.2.2 a (by omega)
/-- a field of a String constant -/
theorem G_sget (F : Fix X cx own cc nL ret nm d MC MS) {i a : Nat} {o f ds : String} {v : Vl} (hE : va_OF o f ds (tv v) a (fun q => X.2.2.2.1 ≤ q) cx.2.2.2.1 X.2.2.2.2.1) (q : Cond.fieldLink own i o f ds ∈ lw_all) (hdg : decode cc pc = .ok (.getfield i, 3)) (kk : G X cx nL Q k n m nx L (v :: st) (pc + 3)) : G X cx nL Q k n m nx L (.inr (some a) :: st) pc := by
  intro H locs ls hP hL hl
  obtain ⟨cf, kf, fi, fd, cell, h1, h2, h3, h4, h5, h6⟩ := va_OF.kept hE hP.old
  exact W.getf F.1 F.2.1 F.2.2.2.2.2.1 (F.2.2.2.2.2.2.1 _ q) h1 h2 h3 h4 h5 rfl rfl hdg (kk H locs ls hP hL hl)
theorem G_gets (F : Fix X cx own cc nL ret nm d MC MS) {i : Nat} {o f ds : String} {v : Vl} (hZ : va_Z o f ds (tv v) (fun q => X.2.2.2.1 ≤ q) cx.2.2.2.1 X.2.2.2.2.1) (q : Cond.fieldLink own i o f ds ∈ lw_all) (hdg : decode cc pc = .ok (.getstatic i, 3)) (kk : G X cx nL Q k n m nx L (v :: st) (pc + 3)) : G X cx nL Q k n m nx L st pc := by
  intro H locs ls hP hL hl
  obtain ⟨cf, kf, fi, fd, a, cell, h1, h2, h3, h4, h5, h6, h7, h8⟩ := va_Z.kept hZ hP.old
  exact W.gets F.1 F.2.1 F.2.2.2.2.2.1 (F.2.2.2.2.2.2.1 _ q) h1 h2 h3 h4 h5 (fun e => by rw [e] at h6; cases h6) h7 rfl hdg (kk H locs ls hP hL hl)
theorem G_slen (F : Fix X cx own cc nL ret nm d MC MS) {a N : Nat} {f : Nat → Value} (hT : va_T .byte a N f (fun q => X.2.2.2.1 ≤ q) cx.2.2.2.1 X.2.2.2.2.1) (hdg : decode cc pc = .ok (.arraylength, 1)) (kk : G X cx nL Q k n m nx L (.inl (Int32.ofNat N) :: st) (pc + 1)) : G X cx nL Q k n m nx L (.inr (some a) :: st) pc := by
  intro H locs ls hP hL hl
  obtain ⟨cell, h1, h2, h3, h4, h5, h6, h7⟩ := va_T.kept hT hP.old
  exact W.alen (n := Int32.ofNat N) F.1 F.2.1 h1 h2 h5 rfl rfl hdg (kk H locs ls hP hL hl)
theorem G_sbald (F : Fix X cx own cc nL ret nm d MC MS) {a N j : Nat} {v : Int32} {f : Nat → Value} (hT : va_T .byte a N f (fun q => X.2.2.2.1 ≤ q) cx.2.2.2.1 X.2.2.2.2.1) (hj : j < N) (hN : N < 2 ^ 31) (hv : f j = .int v) (hdg : decode cc pc = .ok (.baload, 1)) (kk : G X cx nL Q k n m nx L (.inl v :: st) (pc + 1)) : G X cx nL Q k n m nx L (.inl (nI j) :: .inr (some a) :: st) pc := by
  intro H locs ls hP hL hl
  obtain ⟨cell, h1, h2, h3, h4, h5, h6, h7⟩ := va_T.kept hT hP.old
  have hc : (nI j).toNatClampNeg = j := nI_clamp (by omega)
  refine W.bald (v := .int v) F.1 F.2.1 h1 h2 h3 ?_ ?_ rfl rfl hdg (kk H locs ls hP hL hl)
  · rw [hc]
    rintro (q | q)
    · exact nI_pos (by omega) q
    · omega
  · rw [hc, h6 j hj, hv]
/-- a call on a String constant -/
theorem G_callSt (F : Fix X cx own cc nL ret nm d MC MS) {y : MethodName} {bytes : ByteArray} {maxL : Nat} {rt : Option FieldType} {dc mc ms i si : Nat} {As st0 : List Vl} {w : Vl} {m' : Hp} (hsi : si < 2) (hM : Con X dc y bytes maxL rt (.inr (some (X.2.2.2.2.2.1 si)) :: As) m nx (some w) m' mc ms) (hy : y.cls = "java/lang/String") (hG : GoodIn lw_all (wsV own i y.cls y (ws_ y bytes maxL rt)))
    (hd : y.cls ≠ "java/lang/invoke/MethodHandle" ∧ y.cls ≠ "java/lang/invoke/VarHandle" ∧ (parseMethodDescriptor y.desc).map (fun d => d.parameters.length) = some As.length) (hl : dc + 1 ≤ d ∧ maxL ≤ 45) (hst : st0 = As.reverse ++ .inr (some (X.2.2.2.2.2.1 si)) :: st) (hw : st.length ≤ 8) (hf : k + mc ≤ MC ∧ n + ms ≤ MS) (hdg : decode cc pc = .ok (.invokevirtual i, 3))
    (kk : G X cx nL Q (k + mc) (n + ms) m' (nx + mc) L (w :: st) (pc + 3)) : G X cx nL Q k n m nx L st0 pc := by
  intro H locs ls hP hL hll
  subst hst
  have hO := va_O.kept (F.2.2.2.2.2.2.2.1.2.2.1.1 si hsi).1 hP.old
  obtain ⟨cell, g1, g2, g3, -⟩ := hO
  exact G_after (va_runV (As := As.map tv) (rest := st.map tv) (b := X.2.2.2.2.2.1 si) (C := y.cls) (fixS F) hM (cwV As.length F.2.2.2.2.2.2.1 hG rfl rfl rfl ⟨rfl, hd⟩ (fixR F hl)) ⟨blind, ⟨cell, g1, g2, by rw [hy]; exact g3⟩, pre_of F hP (.inr (some (X.2.2.2.2.2.1 si)) :: As)⟩ rfl (by simp) (by exact hll.1) (by simp [tv]) (by rw [st_sum]; show 2 * 0 + st.length ≤ 8; omega) hdg (fixC F hf)) hL hll kk
theorem sk_val (F : Fix X cx own cc nL ret nm d MC MS) {si : Nat} (hsi : si < 2) : va_OF "java/lang/String" "value" "[B" (tv (.inr (some (X.2.2.2.2.2.2 si)))) (X.2.2.2.2.2.1 si) (fun q => X.2.2.2.1 ≤ q) cx.2.2.2.1 X.2.2.2.2.1 := (F.2.2.2.2.2.2.2.1.2.2.1.1 si hsi).2.2.1
theorem sk_cod (F : Fix X cx own cc nL ret nm d MC MS) {si : Nat} (hsi : si < 2) : va_OF "java/lang/String" "coder" "B" (tv (.inl 0)) (X.2.2.2.2.2.1 si) (fun q => X.2.2.2.1 ≤ q) cx.2.2.2.1 X.2.2.2.2.1 := (F.2.2.2.2.2.2.2.1.2.2.1.1 si hsi).2.1
theorem sk_arr (F : Fix X cx own cc nL ret nm d MC MS) {si : Nat} (hsi : si < 2) : va_T .byte (X.2.2.2.2.2.2 si) (lenB.getD si 0) (fun j => .int ((bytB.getD si []).getD j 0)) (fun q => X.2.2.2.1 ≤ q) cx.2.2.2.1 X.2.2.2.2.1 := (F.2.2.2.2.2.2.2.1.2.2.1.1 si hsi).2.2.2
theorem sk_cmp (F : Fix X cx own cc nL ret nm d MC MS) : va_Z "java/lang/String" "COMPACT_STRINGS" "Z" (tv (.inl 1)) (fun q => X.2.2.2.1 ≤ q) cx.2.2.2.1 X.2.2.2.2.1 := F.2.2.2.2.2.2.2.1.2.2.2.2.2
theorem G_bret (F : Fix X cx own cc nL ret nm d MC MS) {nx0 mc ms : Nat} (hr : ret = some .byte) (hk : k ≤ mc) (hn : n ≤ ms) (hx : nx = nx0 + mc) (hdg : decode cc pc = .ok (.ireturn, 1)) : G X cx nL (Qm X cx (some (.inl 0)) m nx0 mc ms) k n m nx L [.inl 0] pc := by
  intro H locs ls hP hL hl
  subst hx
  exact W.widen hk hn (W.zret (v := 0) F.1 F.2.1 (F.2.2.1.trans hr) rfl (fun t ht hW => ⟨rfl, by rw [ht]; exact hP⟩) hL hdg F.2.2.2.1)
set_option maxRecDepth 100000
theorem hdJ0_indexOf : yJ0_indexOf.cls ≠ "java/lang/invoke/MethodHandle" ∧ yJ0_indexOf.cls ≠ "java/lang/invoke/VarHandle" ∧ (parseMethodDescriptor yJ0_indexOf.desc).map (fun d => d.parameters.length) = some 1 := by decide +kernel
theorem hdJ0_indexOf_2 : yJ0_indexOf_2.cls ≠ "java/lang/invoke/MethodHandle" ∧ yJ0_indexOf_2.cls ≠ "java/lang/invoke/VarHandle" ∧ (parseMethodDescriptor yJ0_indexOf_2.desc).map (fun d => d.parameters.length) = some 2 := by decide +kernel
theorem hdJ0_isLatin1 : yJ0_isLatin1.cls ≠ "java/lang/invoke/MethodHandle" ∧ yJ0_isLatin1.cls ≠ "java/lang/invoke/VarHandle" ∧ (parseMethodDescriptor yJ0_isLatin1.desc).map (fun d => d.parameters.length) = some 0 := by decide +kernel
theorem hdJ0_length : yJ0_length.cls ≠ "java/lang/invoke/MethodHandle" ∧ yJ0_length.cls ≠ "java/lang/invoke/VarHandle" ∧ (parseMethodDescriptor yJ0_length.desc).map (fun d => d.parameters.length) = some 0 := by decide +kernel
theorem hdJ0_coder : yJ0_coder.cls ≠ "java/lang/invoke/MethodHandle" ∧ yJ0_coder.cls ≠ "java/lang/invoke/VarHandle" ∧ (parseMethodDescriptor yJ0_coder.desc).map (fun d => d.parameters.length) = some 0 := by decide +kernel
theorem hdJ1_indexOf : yJ1_indexOf.cls ≠ "java/lang/invoke/MethodHandle" ∧ yJ1_indexOf.cls ≠ "java/lang/invoke/VarHandle" ∧ (parseMethodDescriptor yJ1_indexOf.desc).map (fun d => d.parameters.length) = some 4 := by decide +kernel
theorem hdJ1_canEncode : yJ1_canEncode.cls ≠ "java/lang/invoke/MethodHandle" ∧ yJ1_canEncode.cls ≠ "java/lang/invoke/VarHandle" ∧ (parseMethodDescriptor yJ1_canEncode.desc).map (fun d => d.parameters.length) = some 1 := by decide +kernel
theorem hdJ1_indexOfChar : yJ1_indexOfChar.cls ≠ "java/lang/invoke/MethodHandle" ∧ yJ1_indexOfChar.cls ≠ "java/lang/invoke/VarHandle" ∧ (parseMethodDescriptor yJ1_indexOfChar.desc).map (fun d => d.parameters.length) = some 4 := by decide +kernel
theorem metJ0_coder (X : Gx) {si : Nat} (hsi : si < 2) {m : Hp} {nx : Nat} : Con X 1 yJ0_coder cJ0_coder 1 (some .byte) [.inr (some (X.2.2.2.2.2.1 si))] m nx (some (.inl 0)) m 0 0 := by
  refine Con.of (own := RJ0) (nm := "coder") (L := [some (.inr (some (X.2.2.2.2.2.1 si)))]) (by decide +kernel) rfl rfl (Nat.le_of_ble_eq_true rfl) (ent_of 0 rfl) ?_
  intro cx F
  refine G_gets F (sk_cmp F) q497 dJ0_coder_0 ?_
  refine G_if_eq F (tgt := 13) dJ0_coder_3 (by decide) (fun c => absurd c (by decide)) (fun _ => ?_)
  refine G_aload_n F dJ0_coder_6 rfl ?_
  refine G_sget F (sk_cod F hsi) q1837 dJ0_coder_7 ?_
  refine G_goto F (tgt := 14) dJ0_coder_10 (by decide) ?_
  exact G_bret F rfl (Nat.le_refl _) (Nat.le_refl _) rfl dJ0_coder_14
theorem metJ0_isLatin1 (X : Gx) {si : Nat} (hsi : si < 2) {m : Hp} {nx : Nat} : Con X 1 yJ0_isLatin1 cJ0_isLatin1 1 (some .boolean) [.inr (some (X.2.2.2.2.2.1 si))] m nx (some (.inl 1)) m 0 0 := by
  refine Con.of (own := RJ0) (nm := "isLatin1") (L := [some (.inr (some (X.2.2.2.2.2.1 si)))]) (by decide +kernel) rfl rfl (Nat.le_of_ble_eq_true rfl) (ent_of 0 rfl) ?_
  intro cx F
  refine G_gets F (sk_cmp F) q497 dJ0_isLatin1_0 ?_
  refine G_if_eq F (tgt := 17) dJ0_isLatin1_3 (by decide) (fun c => absurd c (by decide)) (fun _ => ?_)
  refine G_aload_n F dJ0_isLatin1_6 rfl ?_
  refine G_sget F (sk_cod F hsi) q1837 dJ0_isLatin1_7 ?_
  refine G_if_ne F (tgt := 17) dJ0_isLatin1_10 (by decide) (fun c => absurd rfl c) (fun _ => ?_)
  refine G_iconst F (v := (1 : Int32)) dJ0_isLatin1_13 (by decide) ?_
  refine G_goto F (tgt := 18) dJ0_isLatin1_14 (by decide) ?_
  exact G_zret F rfl (Or.inr rfl) (Nat.le_refl _) (Nat.le_refl _) rfl dJ0_isLatin1_18
theorem jshr0 (x : Int32) : jshr x 0 = x := by
  unfold jshr
  exact sb_shr0 x
theorem metJ0_length (X : Gx) {si : Nat} (hsi : si < 2) {m : Hp} {nx : Nat} : Con X 2 yJ0_length cJ0_length 1 (some .int) [.inr (some (X.2.2.2.2.2.1 si))] m nx (some (.inl (nI (lenB.getD si 0)))) m 0 0 := by
  refine Con.of (own := RJ0) (nm := "length") (L := [some (.inr (some (X.2.2.2.2.2.1 si)))]) (by decide +kernel) rfl rfl (Nat.le_of_ble_eq_true rfl) (ent_of 0 rfl) ?_
  intro cx F
  refine G_aload_n F dJ0_length_0 rfl ?_
  refine G_sget F (v := .inr (some (X.2.2.2.2.2.2 si))) (sk_val F hsi) q1838 dJ0_length_1 ?_
  refine G_slen F (sk_arr F hsi) dJ0_length_4 ?_
  refine G_aload_n F dJ0_length_5 rfl ?_
  refine G_callSt F hsi (As := []) (st := [.inl (Int32.ofNat (lenB.getD si 0))]) (metJ0_coder X hsi) rfl (lw_V q503 q504 q505 q111 q506) hdJ0_coder ⟨by decide, by decide⟩ rfl (Nat.le_of_ble_eq_true rfl) ⟨Nat.le_refl _, Nat.le_refl _⟩ dJ0_length_6 ?_
  refine G_ishr F dJ0_length_9 ?_
  rw [jshr0]
  exact G_iret F rfl (Nat.le_refl _) (Nat.le_refl _) rfl dJ0_length_10
theorem metJ1_canEncode (X : Gx) {c : Int32} {m : Hp} {nx : Nat} : Con X 1 yJ1_canEncode cJ1_canEncode 1 (some .boolean) [.inl c] m nx (some (.inl (if 0 ≤ c ∧ c ≤ 255 then 1 else 0))) m 0 0 := by
  refine Con.of (own := RJ1) (nm := "canEncode") (L := [some (.inl c)]) (by decide +kernel) rfl rfl (Nat.le_of_ble_eq_true rfl) (ent_of 0 rfl) ?_
  intro cx F
  have hcmp : ∀ a b : Int32, ¬ a < b ↔ b ≤ a := fun a b => by rw [Int32.lt_iff_toInt_lt, Int32.le_iff_toInt_le]; omega
  refine G_iload_n F dJ1_canEncode_0 rfl ?_
  refine G_if_lt F (tgt := 15) dJ1_canEncode_1 (by decide) (fun c1 => ?_) (fun c1 => ?_)
  · rw [if_neg (fun q => (hcmp _ _).mpr q.1 c1)]
    refine G_iconst F (v := (0 : Int32)) dJ1_canEncode_15 (by decide) ?_
    exact G_zret F rfl (Or.inl rfl) (Nat.le_refl _) (Nat.le_refl _) rfl dJ1_canEncode_16
  refine G_iload_n F dJ1_canEncode_4 rfl ?_
  refine G_sipush F (v := (255 : Int32)) dJ1_canEncode_5 (by decide) ?_
  refine G_icmp_gt F (tgt := 15) dJ1_canEncode_8 (by decide) (fun c2 => ?_) (fun c2 => ?_)
  · rw [if_neg (fun q => (hcmp _ _).mpr q.2 c2)]
    refine G_iconst F (v := (0 : Int32)) dJ1_canEncode_15 (by decide) ?_
    exact G_zret F rfl (Or.inl rfl) (Nat.le_refl _) (Nat.le_refl _) rfl dJ1_canEncode_16
  rw [if_pos ⟨(hcmp _ _).mp c1, (hcmp _ _).mp c2⟩]
  refine G_iconst F (v := (1 : Int32)) dJ1_canEncode_11 (by decide) ?_
  refine G_goto F (tgt := 16) dJ1_canEncode_12 (by decide) ?_
  exact G_zret F rfl (Or.inr rfl) (Nat.le_refl _) (Nat.le_refl _) rfl dJ1_canEncode_16
theorem strB_len : ∀ si, si < 2 → lenB.getD si 0 = (strB si).length ∧ (strB si).length < 100 := by decide +kernel
theorem strB_byte : ∀ si, si < 2 → ∀ b ∈ strB si, ∀ n, n < 256 → ((nI n).toInt8.toInt32 = b ↔ nI n = b) := by decide +kernel
theorem metJ1_indexOfChar (X : Gx) {si : Nat} (hsi : si < 2) {c : Int32} (hc0 : 0 ≤ c) (hc1 : c ≤ 255) {m : Hp} {nx : Nat} : Con X 1 yJ1_indexOfChar cJ1_indexOfChar 6 (some .int) [.inr (some (X.2.2.2.2.2.2 si)), .inl c, .inl 0, .inl (nI (lenB.getD si 0))] m nx (some (.inl (jidx (strB si) c 0))) m 0 0 := by
  refine Con.of (own := RJ1) (nm := "indexOfChar") (L := [some (.inr (some (X.2.2.2.2.2.2 si))), some (.inl c), some (.inl 0), some (.inl (nI (lenB.getD si 0))), none, none]) (by decide +kernel) rfl rfl (Nat.le_of_ble_eq_true rfl) (ent_of 2 rfl) ?_
  intro cx F
  obtain ⟨hlen, hsm⟩ := strB_len si hsi
  have hbyte := strB_byte si hsi
  obtain ⟨j0, hj0, rfl⟩ : ∃ j : Nat, j < 256 ∧ c = nI j := by
    rw [Int32.le_iff_toInt_le, Int32.toInt_zero] at hc0
    rw [Int32.le_iff_toInt_le] at hc1
    have h255 : (255 : Int32).toInt = 255 := by decide
    obtain ⟨j, hj, e⟩ := nI_of (x := c) (fun q => by rw [Int32.lt_iff_toInt_lt, Int32.toInt_zero] at q; omega)
    rw [e, nI_toInt hj, h255] at hc1
    exact ⟨j, by omega, e⟩
  refine G_iload_n F dJ1_indexOfChar_0 rfl ?_
  refine G_i2b F dJ1_indexOfChar_1 ?_
  refine G_istore F (L2 := [some (.inr (some (X.2.2.2.2.2.2 si))), some (.inl (nI j0)), some (.inl 0), some (.inl (nI (lenB.getD si 0))), some (.inl (j2b (nI j0))), none]) dJ1_indexOfChar_2 (by decide) rfl ?_
  refine G_iload_n F dJ1_indexOfChar_4 rfl ?_
  refine G_istore F (L2 := [some (.inr (some (X.2.2.2.2.2.2 si))), some (.inl (nI j0)), some (.inl 0), some (.inl (nI (lenB.getD si 0))), some (.inl (j2b (nI j0))), some (.inl 0)]) dJ1_indexOfChar_5 (by decide) rfl ?_
  have loop : ∀ (r : List Int32) (i : Nat), (strB si).drop i = r → i ≤ (strB si).length → jidx r (nI j0) i = jidx (strB si) (nI j0) 0 → G X cx 6 (Qm X cx (some (.inl (jidx (strB si) (nI j0) 0))) m nx 0 0) 0 0 m nx [some (.inr (some (X.2.2.2.2.2.2 si))), some (.inl (nI j0)), some (.inl 0), some (.inl (nI (lenB.getD si 0))), some (.inl (j2b (nI j0))), some (.inl (nI i))] [] 7 := by
    intro r
    induction r with
    | nil =>
      intro i hr hi hj
      have hge : (strB si).length ≤ i := List.drop_eq_nil_iff.mp hr
      rw [← hj]
      refine G_iload F dJ1_indexOfChar_7 rfl ?_
      refine G_iload_n F dJ1_indexOfChar_9 rfl ?_
      refine G_icmp_ge F (tgt := 31) dJ1_indexOfChar_10 (by decide) (fun _ => ?_) (fun c1 => absurd (nI_le (a := lenB.getD si 0) (b := i) (by omega) (by omega)) c1)
      refine G_iconst F (v := (-1 : Int32)) dJ1_indexOfChar_31 (by decide) ?_
      exact G_iret F rfl (Nat.le_refl _) (Nat.le_refl _) rfl dJ1_indexOfChar_32
    | cons b r ih =>
      intro i hr hi hj
      obtain ⟨h1, h2, h3, h4⟩ := sc_dropC hr
      refine G_iload F dJ1_indexOfChar_7 rfl ?_
      refine G_iload_n F dJ1_indexOfChar_9 rfl ?_
      refine G_icmp_ge F (tgt := 31) dJ1_indexOfChar_10 (by decide) (fun c1 => absurd c1 (nI_ge (by omega) (by omega))) (fun _ => ?_)
      refine G_aload_n F dJ1_indexOfChar_13 rfl ?_
      refine G_iload F dJ1_indexOfChar_14 rfl ?_
      refine G_sbald F (v := b) (sk_arr F hsi) (j := i) (by omega) (by omega) (congrArg Value.int h2) dJ1_indexOfChar_16 ?_
      refine G_iload F dJ1_indexOfChar_17 rfl ?_
      rw [jidx] at hj
      refine G_icmp_ne F (tgt := 25) dJ1_indexOfChar_19 (by decide) (fun c2 => ?_) (fun c2 => ?_)
      · rw [if_neg (fun q => c2 ((hbyte b h4 j0 hj0).mpr q).symm)] at hj
        refine G_iinc F (v := nI (i + 1)) (L2 := [some (.inr (some (X.2.2.2.2.2.2 si))), some (.inl (nI j0)), some (.inl 0), some (.inl (nI (lenB.getD si 0))), some (.inl (j2b (nI j0))), some (.inl (nI (i + 1)))]) dJ1_indexOfChar_25 (by decide) rfl (nI_succ i).symm rfl ?_
        refine G_goto F (tgt := 7) dJ1_indexOfChar_28 (by decide) ?_
        exact ih (i + 1) h3 (by omega) hj
      · rw [if_pos ((hbyte b h4 j0 hj0).mp c2.symm)] at hj
        rw [← hj]
        refine G_iload F dJ1_indexOfChar_22 rfl ?_
        exact G_iret F rfl (Nat.le_refl _) (Nat.le_refl _) rfl dJ1_indexOfChar_24
  exact loop (strB si) 0 rfl (Nat.zero_le _) rfl
theorem jidx_out {c : Int32} : ∀ (l : List Int32) (i : Nat), (∀ b ∈ l, ¬ c = b) → jidx l c i = -1 := by
  intro l
  induction l with
  | nil => intro i _; rfl
  | cons b l ih => intro i h; rw [jidx, if_neg (h b List.mem_cons_self)]; exact ih (i + 1) (fun x hx => h x (List.mem_cons_of_mem _ hx))
theorem strB_in : ∀ si, si < 2 → ∀ b ∈ strB si, 0 ≤ b ∧ b ≤ 255 := by decide +kernel
theorem metJ1_indexOf (X : Gx) {si : Nat} (hsi : si < 2) {c : Int32} {m : Hp} {nx : Nat} : Con X 3 yJ1_indexOf cJ1_indexOf 4 (some .int) [.inr (some (X.2.2.2.2.2.2 si)), .inl c, .inl 0, .inl (nI (lenB.getD si 0))] m nx (some (.inl (jidx (strB si) c 0))) m 0 0 := by
  refine Con.of (own := RJ1) (nm := "indexOf") (L := [some (.inr (some (X.2.2.2.2.2.2 si))), some (.inl c), some (.inl 0), some (.inl (nI (lenB.getD si 0)))]) (by decide +kernel) rfl rfl (Nat.le_of_ble_eq_true rfl) (ent_of 0 rfl) ?_
  intro cx F
  obtain ⟨hlen, hsm⟩ := strB_len si hsi
  refine G_iload_n F dJ1_indexOf_0 rfl ?_
  refine G_callSv F (As := [.inl c]) (st := []) (metJ1_canEncode X) (lw_S q510 q511 q112 q512) hdJ1_canEncode ⟨by decide, by decide⟩ rfl (Nat.le_of_ble_eq_true rfl) ⟨Nat.le_refl _, Nat.le_refl _⟩ dJ1_indexOf_1 ?_
  by_cases hc : 0 ≤ c ∧ c ≤ 255
  · rw [if_pos hc]
    refine G_if_ne F (tgt := 9) dJ1_indexOf_4 (by decide) (fun _ => ?_) (fun c1 => absurd c1 (by decide))
    refine G_iload_n F dJ1_indexOf_9 rfl ?_
    refine G_iconst F (v := (0 : Int32)) dJ1_indexOf_10 (by decide) ?_
    refine G_mmax F q513 q514 q113 q515 (by decide) (Nat.le_of_ble_eq_true rfl) ⟨Nat.le_refl _, Nat.le_refl _⟩ dJ1_indexOf_11 ?_
    refine G_istore_n F (L2 := [some (.inr (some (X.2.2.2.2.2.2 si))), some (.inl c), some (.inl (jmax 0 0)), some (.inl (nI (lenB.getD si 0)))]) dJ1_indexOf_14 (by decide) rfl ?_
    refine G_iload_n F dJ1_indexOf_15 rfl ?_
    refine G_aload_n F dJ1_indexOf_16 rfl ?_
    refine G_slen F (sk_arr F hsi) dJ1_indexOf_17 ?_
    refine G_mmin F q516 q517 q113 q518 (by decide) (Nat.le_of_ble_eq_true rfl) ⟨Nat.le_refl _, Nat.le_refl _⟩ dJ1_indexOf_18 ?_
    have e1 : jmax (0 : Int32) 0 = 0 := by decide
    have e2 : jmin (nI (lenB.getD si 0)) (Int32.ofNat (lenB.getD si 0)) = nI (lenB.getD si 0) := ite_self _
    rw [e1, e2]
    refine G_istore_n F (L2 := [some (.inr (some (X.2.2.2.2.2.2 si))), some (.inl c), some (.inl 0), some (.inl (nI (lenB.getD si 0)))]) dJ1_indexOf_21 (by decide) rfl ?_
    refine G_iload_n F dJ1_indexOf_22 rfl ?_
    refine G_iload_n F dJ1_indexOf_23 rfl ?_
    have hpos : 0 < lenB.getD si 0 := by
      rcases (show si = 0 ∨ si = 1 by omega) with rfl | rfl <;> decide
    refine G_icmp_lt F (tgt := 29) dJ1_indexOf_24 (by decide) (fun _ => ?_) (fun c1 => absurd (nI_lt (a := 0) (b := lenB.getD si 0) hpos (by omega)) c1)
    refine G_aload_n F dJ1_indexOf_29 rfl ?_
    refine G_iload_n F dJ1_indexOf_30 rfl ?_
    refine G_iload_n F dJ1_indexOf_31 rfl ?_
    refine G_iload_n F dJ1_indexOf_32 rfl ?_
    refine G_callSv F (As := [.inr (some (X.2.2.2.2.2.2 si)), .inl c, .inl 0, .inl (nI (lenB.getD si 0))]) (st := []) (metJ1_indexOfChar X hsi hc.1 hc.2) (lw_S q519 q520 q112 q521) hdJ1_indexOfChar ⟨by decide, by decide⟩ rfl (Nat.le_of_ble_eq_true rfl) ⟨Nat.le_refl _, Nat.le_refl _⟩ dJ1_indexOf_33 ?_
    exact G_iret F rfl (Nat.le_refl _) (Nat.le_refl _) rfl dJ1_indexOf_36
  · rw [if_neg hc]
    rw [jidx_out (strB si) 0 (fun b hb q => hc (by rw [q]; exact strB_in si hsi b hb))]
    refine G_if_ne F (tgt := 9) dJ1_indexOf_4 (by decide) (fun c1 => absurd rfl c1) (fun _ => ?_)
    refine G_iconst F (v := (-1 : Int32)) dJ1_indexOf_7 (by decide) ?_
    exact G_iret F rfl (Nat.le_refl _) (Nat.le_refl _) rfl dJ1_indexOf_8
theorem metJ0_indexOf_2 (X : Gx) {si : Nat} (hsi : si < 2) {c : Int32} {m : Hp} {nx : Nat} : Con X 4 yJ0_indexOf_2 cJ0_indexOf_2 3 (some .int) [.inr (some (X.2.2.2.2.2.1 si)), .inl c, .inl 0] m nx (some (.inl (jidx (strB si) c 0))) m 0 0 := by
  refine Con.of (own := RJ0) (nm := "indexOf") (L := [some (.inr (some (X.2.2.2.2.2.1 si))), some (.inl c), some (.inl 0)]) (by decide +kernel) rfl rfl (Nat.le_of_ble_eq_true rfl) (ent_of 0 rfl) ?_
  intro cx F
  refine G_aload_n F dJ0_indexOf_2_0 rfl ?_
  refine G_callSt F hsi (As := []) (st := []) (metJ0_isLatin1 X hsi) rfl (lw_V q493 q494 q495 q111 q496) hdJ0_isLatin1 ⟨by decide, by decide⟩ rfl (Nat.le_of_ble_eq_true rfl) ⟨Nat.le_refl _, Nat.le_refl _⟩ dJ0_indexOf_2_1 ?_
  refine G_if_eq F (tgt := 23) dJ0_indexOf_2_4 (by decide) (fun c1 => absurd c1 (by decide)) (fun _ => ?_)
  refine G_aload_n F dJ0_indexOf_2_7 rfl ?_
  refine G_sget F (v := .inr (some (X.2.2.2.2.2.2 si))) (sk_val F hsi) q1838 dJ0_indexOf_2_8 ?_
  refine G_iload_n F dJ0_indexOf_2_11 rfl ?_
  refine G_iload_n F dJ0_indexOf_2_12 rfl ?_
  refine G_aload_n F dJ0_indexOf_2_13 rfl ?_
  refine G_callSt F hsi (As := []) (st := [.inl 0, .inl c, .inr (some (X.2.2.2.2.2.2 si))]) (metJ0_length X hsi) rfl (lw_V q499 q500 q501 q111 q502) hdJ0_length ⟨by decide, by decide⟩ rfl (Nat.le_of_ble_eq_true rfl) ⟨Nat.le_refl _, Nat.le_refl _⟩ dJ0_indexOf_2_14 ?_
  refine G_callSv F (As := [.inr (some (X.2.2.2.2.2.2 si)), .inl c, .inl 0, .inl (nI (lenB.getD si 0))]) (st := []) (metJ1_indexOf X hsi) (lw_S q507 q508 q112 q509) hdJ1_indexOf ⟨by decide, by decide⟩ rfl (Nat.le_of_ble_eq_true rfl) ⟨Nat.le_refl _, Nat.le_refl _⟩ dJ0_indexOf_2_17 ?_
  refine G_goto F (tgt := 36) dJ0_indexOf_2_20 (by decide) ?_
  exact G_iret F rfl (Nat.le_refl _) (Nat.le_refl _) rfl dJ0_indexOf_2_36
theorem metJ0_indexOf (X : Gx) {si : Nat} (hsi : si < 2) {c : Int32} {m : Hp} {nx : Nat} : Con X 5 yJ0_indexOf cJ0_indexOf 2 (some .int) [.inr (some (X.2.2.2.2.2.1 si)), .inl c] m nx (some (.inl (jidx (strB si) c 0))) m 0 0 := by
  refine Con.of (own := RJ0) (nm := "indexOf") (L := [some (.inr (some (X.2.2.2.2.2.1 si))), some (.inl c)]) (by decide +kernel) rfl rfl (Nat.le_of_ble_eq_true rfl) (ent_of 0 rfl) ?_
  intro cx F
  refine G_aload_n F dJ0_indexOf_0 rfl ?_
  refine G_iload_n F dJ0_indexOf_1 rfl ?_
  refine G_iconst F (v := (0 : Int32)) dJ0_indexOf_2 (by decide) ?_
  refine G_callSt F hsi (As := [.inl c, .inl 0]) (st := []) (metJ0_indexOf_2 X hsi) rfl (lw_V q489 q490 q491 q111 q492) hdJ0_indexOf_2 ⟨by decide, by decide⟩ rfl (Nat.le_of_ble_eq_true rfl) ⟨Nat.le_refl _, Nat.le_refl _⟩ dJ0_indexOf_3 ?_
  exact G_iret F rfl (Nat.le_refl _) (Nat.le_refl _) rfl dJ0_indexOf_6
theorem G_ldcS (F : Fix X cx own cc nL ret nm d MC MS) {i a : Nat} {tx : String} (hZ : vk_R own i tx a cx.2.2.2.1) (hdg : decode cc pc = .ok (.ldc i, 2)) (kk : G X cx nL Q k n m nx L (.inr (some a) :: st) (pc + 2)) : G X cx nL Q k n m nx L st pc := fun H locs ls hP hL hl => va_ldcS F.1 F.2.1 F.2.2.2.2.2.1 hZ hdg (kk H locs ls hP hL hl)
theorem G_str (F : Fix X cx own cc nL ret nm d MC MS) {si i i2 : Nat} (hsi : si < 2) {tx : String} (hZ : vk_R own i tx (X.2.2.2.2.2.1 si) cx.2.2.2.1) {j : Fin 4} {v : Int32} (h1 : decode cc pc = .ok (.ldc i, 2)) (h2 : decode cc (pc + 2) = .ok (.iload_n j, 1)) (hv : L[(j : Nat)]? = some (some (.inl v))) (q1 : Cond.methodLink own i2 yJ0_indexOf ∈ lw_all) (hw : st.length ≤ 6) (h3 : decode cc (pc + 3) = .ok (.invokevirtual i2, 3)) (hd : 12 ≤ d) (hk : k ≤ MC ∧ n ≤ MS) (kk : G X cx nL Q k n m nx L (.inl (jidx (strB si) v 0) :: st) (pc + 6)) : G X cx nL Q k n m nx L st pc := by
  refine G_ldcS F hZ h1 ?_
  refine G_iload_n F h2 hv ?_
  exact G_callSt F hsi (As := [.inl v]) (st := st) (metJ0_indexOf X hsi) rfl (lw_V q1 q486 q487 q111 q488) hdJ0_indexOf ⟨by omega, by decide⟩ rfl (by omega) ⟨hk.1, hk.2⟩ h3 kk
theorem G_strS (F : Fix X cx RX8 cc nL ret nm d MC MS) {i2 : Nat} {j : Fin 4} {v : Int32} (h1 : decode cc pc = .ok (.ldc 75, 2)) (h2 : decode cc (pc + 2) = .ok (.iload_n j, 1)) (hv : L[(j : Nat)]? = some (some (.inl v))) (q1 : Cond.methodLink RX8 i2 yJ0_indexOf ∈ lw_all) (hw : st.length ≤ 6) (h3 : decode cc (pc + 3) = .ok (.invokevirtual i2, 3)) (hd : 12 ≤ d) (hk : k ≤ MC ∧ n ≤ MS) (kk : G X cx nL Q k n m nx L (.inl (strS v) :: st) (pc + 6)) : G X cx nL Q k n m nx L st pc := G_str F (si := 0) (by decide) F.2.2.2.2.2.2.2.1.2.2.2.1 h1 h2 hv q1 hw h3 hd hk kk
theorem G_strC (F : Fix X cx RX8 cc nL ret nm d MC MS) {i2 : Nat} {j : Fin 4} {v : Int32} (h1 : decode cc pc = .ok (.ldc 129, 2)) (h2 : decode cc (pc + 2) = .ok (.iload_n j, 1)) (hv : L[(j : Nat)]? = some (some (.inl v))) (q1 : Cond.methodLink RX8 i2 yJ0_indexOf ∈ lw_all) (hw : st.length ≤ 6) (h3 : decode cc (pc + 3) = .ok (.invokevirtual i2, 3)) (hd : 12 ≤ d) (hk : k ≤ MC ∧ n ≤ MS) (kk : G X cx nL Q k n m nx L (.inl (strC v) :: st) (pc + 6)) : G X cx nL Q k n m nx L st pc := G_str F (si := 1) (by decide) F.2.2.2.2.2.2.2.1.2.2.2.2.1 h1 h2 hv q1 hw h3 hd hk kk
end STR
section GRID
variable {X : Gx} {cx : Cx} {own nm : String} {cc : ByteArray} {nL : Nat} {ret : Option FieldType} {d MC MS : Nat} {Q : State → Prop} {k n : Nat} {m : Hp} {nx : Nat} {L : List (Option Vl)} {st : List Vl} {pc : Nat}
theorem outerC_arr' (cA : ClassId) (N h0 : Nat) : ∀ i, i ≤ N → Jvm.Free.Multi.outerC cA N h0 i = arrV cA N (fun j => va_rf (if j < i then some (h0 + 1 + j) else none))
  | 0, _ => arrV_new cA N .null
  | i + 1, h => by
    show (Jvm.Free.Multi.outerC cA N h0 i).setSlot i (.ref (h0 + 1 + i)) = _
    rw [outerC_arr' cA N h0 i (by omega), arrV_store]
    congr 1
    funext j
    by_cases hj : j = i
    · subst hj
      simp [updV, va_rf]
    · have e : (j < i + 1) = (j < i) := by
        apply propext
        constructor
        · intro q; omega
        · intro q; omega
      simp [updV, hj, e]
theorem outerC_arr (cA : ClassId) (N h0 : Nat) : Jvm.Free.Multi.outerC cA N h0 N = arrV cA N (fun j => va_rf (if j < N then some (h0 + 1 + j) else none)) := outerC_arr' cA N h0 N (Nat.le_refl N)
theorem innerC_arr (cB : ClassId) (K : Nat) : Jvm.Free.Multi.innerC cB K (defaultValue .int) = arrV cB K (fun _ => .int 0) := arrV_new cB K (.int 0)
theorem G_newgc (F : Fix X cx own cc nL ret nm d MC MS) {N K i : Nat} {u v : Int32} {m2 : Hp} (q1 : Cond.classLink own i "[[I" ∈ lw_all) (q2 : Cond.arrayOver (.array .int) ∈ lw_tbl) (q3 : Cond.arrayClass .int ∈ lw_all) (hu : ¬ u < 0) (hv : ¬ v < 0) (hN : u.toNatClampNeg = N) (hK : v.toNatClampNeg = K) (hB : N ≤ 1000 ∧ K ≤ 1000) (hc : k + (N + 1) ≤ MC) (hs : n + (N + N * K) ≤ MS) (hdg : decode cc pc = .ok (.multianewarray i 2, 4)) (e : some (hp_newg m nx N K) = some m2) (kk : G X cx nL Q (k + (N + 1)) (n + (N + N * K)) m2 (nx + (N + 1)) L (.inr (some nx) :: st) (pc + 4)) : G X cx nL Q k n m nx L (.inl v :: .inl u :: st) pc := by
  intro H locs ls hP hL hl
  cases e
  subst hN; subst hK
  intro T hT XS
  have hR := F.2.2.2.2.2.2.2.2.1
  have hts := F.2.2.2.2.2.2.1
  have hK := F.2.2.2.2.2.2.2.1
  obtain ⟨vm₁, cA, comp, hW, hfA, hfC, hO, hI, X1, step⟩ := XS.multianewarray2F F.1 (own := own) (index := i) (ty := .int) F.2.2.2.2.2.1 (hts _ q1) (hK.2.1.2.2.2.2 _ q2) (hts _ q3) (g := F0 cx.2.2.2.2.1 pc ls (.int v :: .int u :: st.map tv)) rfl (by rw [F.2.1]; exact hdg) rfl hu hv (by omega) (by show v.toNatClampNeg * 4 ≤ _; omega) (by omega) rfl rfl (by omega) (by omega)
  have eA : cA = X.2.2.1 7 := ci_name hfA (hK.ty (t := 7) (by decide)).2
  have eC : comp = X.2.2.1 0 := ci_name hfC (hK.ty (t := 0) (by decide)).2
  subst eA; subst eC
  have hsz : (T.setVm vm₁).heap.size = nx := by show T.heap.size = nx; rw [hT]; exact hP.1
  obtain ⟨f1, f2, -, -⟩ := Jvm.Free.Multi.fill_facts (T.setVm vm₁) (X.2.2.1 7) (X.2.2.1 0) u.toNatClampNeg v.toNatClampNeg (defaultValue .int) u.toNatClampNeg
  have hold : ∀ q : Nat, q < nx → (Jvm.Free.Multi.fill (T.setVm vm₁) (X.2.2.1 7) (X.2.2.1 0) u.toNatClampNeg v.toNatClampNeg (defaultValue .int) u.toNatClampNeg).heap[q]? = H[q]? := fun q hq => by
    rw [Jvm.Free.Multi.fill_old (T.setVm vm₁) _ _ _ _ _ (by rw [hsz]; exact hq)]
    show T.heap[q]? = _
    rw [hT]
  have hP' : PH X (hp_newg m nx u.toNatClampNeg v.toNatClampNeg) (nx + (u.toNatClampNeg + 1)) (Jvm.Free.Multi.fill (T.setVm vm₁) (X.2.2.1 7) (X.2.2.1 0) u.toNatClampNeg v.toNatClampNeg (defaultValue .int) u.toNatClampNeg).heap := by
    have hz := hP.2.1
    refine ⟨by rw [f1, hsz]; omega, by omega, fun a c hc' => ?_, fun q hq => by rw [hold q (by omega)]; exact hP.2.2.2 q hq⟩
    unfold hp_newg at hc'
    split at hc'
    · rename_i ha
      subst ha
      cases hc'
      refine ⟨hz, ?_⟩
      have : (Jvm.Free.Multi.fill (T.setVm vm₁) (X.2.2.1 7) (X.2.2.1 0) u.toNatClampNeg v.toNatClampNeg (defaultValue .int) u.toNatClampNeg).heap[a]? = some (arrV (X.2.2.1 7) u.toNatClampNeg (fun j => va_rf (if j < u.toNatClampNeg then some (a + 1 + j) else none))) := by
        rw [hsz] at f2
        rw [f2, outerC_arr]
      exact this
    · split at hc'
      · rename_i ha hb
        cases hc'
        refine ⟨by omega, ?_⟩
        have hin := Jvm.Free.Multi.fill_inner (T.setVm vm₁) (X.2.2.1 7) (X.2.2.1 0) u.toNatClampNeg v.toNatClampNeg (defaultValue .int) u.toNatClampNeg (a - nx - 1) (by omega)
        rw [hsz, show nx + 1 + (a - nx - 1) = a by omega, innerC_arr] at hin
        exact hin
      · have h1 := hP.2.2.1 a c hc'
        have hl' : a < H.size := h1.2.lt
        exact ⟨h1.1, h1.2.kept (hold a (by rw [← hP.1]; exact hl'))⟩
  have hk2 := kk _ locs ls hP' hL hl
  obtain ⟨t, a1, b1⟩ := hk2 _ rfl (by
    have ec : k + 1 + u.toNatClampNeg = k + (u.toNatClampNeg + 1) := by omega
    have en : n + u.toNatClampNeg + u.toNatClampNeg * v.toNatClampNeg = n + (u.toNatClampNeg + u.toNatClampNeg * v.toNatClampNeg) := by omega
    rw [ec, en] at X1
    exact X1)
  refine ⟨t, step t ?_, b1⟩
  have hz2 : T.heap.size = nx := hsz
  rw [hz2]
  exact a1
end GRID
