set_option maxRecDepth 100000
set_option linter.unusedVariables false
/-! THE CLAIM OUT OF ONE WALK OF THE LAW'S BODY. Your part is whole_start (and what it stands on); all else here is the same for every law, but numbers. -/
def lw_P (b : Addr) (xs : List Int32) (args : Array Value) (s : State) : Prop := args = #[.ref b] ∧ s.IntsAt b xs ∧ xs.length ≤ 144 ∧ (Jvm.Cond.and given_1 narrow_1).before args s = true
def lw_Q (_ : Array Value) (s : State) (o : Outcome) (t : State) : Prop := o = .returned (some (.int 1)) ∧ Framed s o t [] 1200000 5502250
def lw_Z (below : List Frame) (a : Array Value) (s : State) : State → Prop := fun t => ∃ o, t.status = .running ∧ Ended t below o ∧ lw_Q a s o t
/-- the law's own end, with 1 on the stack, nothing written that was there before, its room as the claim has it -/
theorem lw_ret {p : Program} {l : Launch} {e : Env} {s : State} {m : MethodId} {below : List Frame} {meth : Method} {c : Code} {b : Nat} (hx : p.tables.exec = Jvm.exec) (hb : c.code = code) (hr : meth.sig.returnType = ret) (hlocks : meth.locks = false) {pc : Nat} {H : Heap} {ls : Array Slot} (hdg : decode code pc = .ok (.ireturn, 1)) : W p l e room_1 s m #[Value.ref b] below meth c H [] 1200000 5502250 (lw_Z below #[Value.ref b] s) (F0 m pc ls [.int 1]) := by
  intro T hT X
  obtain ⟨fs, hret, hrun, hended, hW, hframe⟩ := X.leave (v := some (.int 1)) (hlocks := hlocks) (fun h => by rw [hr] at h; cases h)
  have hmeth' : T.vm.method? m = some meth := X.method'
  refine ⟨T.setFrames fs, ?_, .returned (some (.int 1)), hrun, hended, rfl, ⟨_, rfl⟩, hW, hframe⟩
  jvm_step X.here [X.here.top, hx, hb, hdg, hmeth', hr, ret, narrow_b1]
  (try refine ⟨rfl, ?_⟩); (try refine ⟨rfl, ?_⟩)
  first | (intro acts; rw [hret _ acts rfl rfl rfl]) | rw [hret _ _ rfl rfl rfl]
  exact Steps.refl _
/-- what holds at the law's entry: the machine, the code, the tables' words (any of lw_tbl by 'hts w (by decide +kernel)'), the script of L ints xs at the cell b, what the Statement gives of the start (any of its parts by flat_of_before) -/
def lw_At (p : Program) (s : State) (m : MethodId) (meth : Method) (c : Code) (b L : Nat) (xs : Nat → Int32) : Prop :=
  p.tables.exec = Jvm.exec ∧ c.code = code ∧ meth.sig.returnType = ret ∧ c.maxLocals = 4 ∧ s.vm.findClass R_law = some m.cls ∧ (∀ w ∈ lw_tbl, w.before #[Value.ref b] s = true) ∧ va_X b L xs s s.heap ∧ b < s.heap.size ∧ meth.locks = false ∧ (Jvm.Cond.and given_1 narrow_1).before #[Value.ref b] s = true
theorem classes_at {s : State} {b : Addr} (hts : ∀ w ∈ lw_tbl, w.before #[Value.ref b] s = true) : ∃ (dC : Nat → ClassId) (dI : Nat → Nat → Nat), ∀ (k : Nat) (q : vw_C), vwCl[k]? = some q → u_Kn s q.1 q.2.1 q.2.2 (dC k) (dI k) := by
  have h : ∀ k : Nat, ∃ z : ClassId × (Nat → Nat), ∀ q : vw_C, vwCl[k]? = some q → u_Kn s q.1 q.2.1 q.2.2 z.1 z.2 := by
    intro k
    match k with
    | 0 => obtain ⟨c, i, h⟩ := u_known (C := RX0) (T := TX0) (N := 22) (n := 22) hts (fun w h => lw_all_tbl (in_X0 w h)) (hts _ (lw_all_tbl q129)); exact ⟨(c, i), fun q hq => by cases hq; exact h⟩
    | 1 => obtain ⟨c, i, h⟩ := u_known (C := RX2) (T := TX2) (N := 10) (n := 10) hts (fun w h => lw_all_tbl (in_X2 w h)) (hts _ (lw_all_tbl q139)); exact ⟨(c, i), fun q hq => by cases hq; exact h⟩
    | 2 => obtain ⟨c, i, h⟩ := u_known (C := RX3) (T := TX3) (N := 9) (n := 9) hts (fun w h => lw_all_tbl (in_X3 w h)) (hts _ (lw_all_tbl q182)); exact ⟨(c, i), fun q hq => by cases hq; exact h⟩
    | 3 => obtain ⟨c, i, h⟩ := u_known (C := RX4) (T := TX4) (N := 6) (n := 6) hts (fun w h => lw_all_tbl (in_X4 w h)) (hts _ (lw_all_tbl q189)); exact ⟨(c, i), fun q hq => by cases hq; exact h⟩
    | 4 => obtain ⟨c, i, h⟩ := u_known (C := RX5) (T := TX5) (N := 4) (n := 4) hts (fun w h => lw_all_tbl (in_X5 w h)) (hts _ (lw_all_tbl q260)); exact ⟨(c, i), fun q hq => by cases hq; exact h⟩
    | 5 => obtain ⟨c, i, h⟩ := u_known (C := RX6) (T := TX6) (N := 5) (n := 5) hts (fun w h => lw_all_tbl (in_X6 w h)) (hts _ (lw_all_tbl q290)); exact ⟨(c, i), fun q hq => by cases hq; exact h⟩
    | 6 => obtain ⟨c, i, h⟩ := u_known (C := RX7) (T := TX7) (N := 66) (n := 66) hts (fun w h => lw_all_tbl (in_X7 w h)) (hts _ (lw_all_tbl q1219)); exact ⟨(c, i), fun q hq => by cases hq; exact h⟩
    | 7 => obtain ⟨c, i, h⟩ := u_known (C := RX8) (T := TX8) (N := 7) (n := 7) hts (fun w h => lw_all_tbl (in_X8 w h)) (hts _ (lw_all_tbl q438)); exact ⟨(c, i), fun q hq => by cases hq; exact h⟩
    | 8 => obtain ⟨c, i, h⟩ := u_known (C := RX10) (T := TX10) (N := 3) (n := 3) hts (fun w h => lw_all_tbl (in_X10 w h)) (hts _ (lw_all_tbl q580)); exact ⟨(c, i), fun q hq => by cases hq; exact h⟩
    | 9 => obtain ⟨c, i, h⟩ := u_known (C := RX11) (T := TX11) (N := 1) (n := 1) hts (fun w h => lw_all_tbl (in_X11 w h)) (hts _ (lw_all_tbl q602)); exact ⟨(c, i), fun q hq => by cases hq; exact h⟩
    | 10 => obtain ⟨c, i, h⟩ := u_known (C := RX12) (T := TX12) (N := 1) (n := 1) hts (fun w h => lw_all_tbl (in_X12 w h)) (hts _ (lw_all_tbl q620)); exact ⟨(c, i), fun q hq => by cases hq; exact h⟩
    | 11 => obtain ⟨c, i, h⟩ := u_known (C := RX14) (T := TX14) (N := 3) (n := 3) hts (fun w h => lw_all_tbl (in_X14 w h)) (hts _ (lw_all_tbl q649)); exact ⟨(c, i), fun q hq => by cases hq; exact h⟩
    | 12 => obtain ⟨c, i, h⟩ := u_known (C := RX15) (T := TX15) (N := 1) (n := 1) hts (fun w h => lw_all_tbl (in_X15 w h)) (hts _ (lw_all_tbl q659)); exact ⟨(c, i), fun q hq => by cases hq; exact h⟩
    | 13 => obtain ⟨c, i, h⟩ := u_known (C := RX16) (T := TX16) (N := 3) (n := 3) hts (fun w h => lw_all_tbl (in_X16 w h)) (hts _ (lw_all_tbl q672)); exact ⟨(c, i), fun q hq => by cases hq; exact h⟩
    | 14 => obtain ⟨c, i, h⟩ := u_known (C := RX18) (T := TX18) (N := 10) (n := 10) hts (fun w h => lw_all_tbl (in_X18 w h)) (hts _ (lw_all_tbl q707)); exact ⟨(c, i), fun q hq => by cases hq; exact h⟩
    | 15 => obtain ⟨c, i, h⟩ := u_known (C := RX19) (T := TX19) (N := 8) (n := 8) hts (fun w h => lw_all_tbl (in_X19 w h)) (hts _ (lw_all_tbl q879)); exact ⟨(c, i), fun q hq => by cases hq; exact h⟩
    | k + 16 => exact ⟨(0, fun _ => 0), fun q hq => by simp [vwCl] at hq⟩
  obtain ⟨f, hf⟩ := Classical.axiomOfChoice h
  exact ⟨fun k => (f k).1, fun k => (f k).2, fun k q hq => hf k q hq⟩
theorem arrays_at {s : State} {b : Addr} (hts : ∀ w ∈ lw_tbl, w.before #[Value.ref b] s = true) : ∃ AI : Nat → ClassId, ∀ t : Nat, t < 8 → ArrOfT s (AI t) (tysT t) ∧ va_RA s (AI t) (tysT t) := by
  have prim : ∀ ty : FieldType, (Cond.arrayClass ty).before #[Value.ref b] s = true → ∃ cA, ArrOfT s cA ty ∧ s.vm.findClass ("[" ++ ty.toString) = some cA := by
    intro ty h
    obtain ⟨cA, kA, comp, h1, h2, h3⟩ := Cond.arrayClass_spec h
    exact ⟨cA, fun n z => ⟨fun x q => (by cases q), kA, h2, comp, h3⟩, h1⟩
  have refs : ∀ C : String, (Cond.arrayOver (.object C)).before #[Value.ref b] s = true → ∃ cA, ArrOfT s cA (.object C) ∧ va_RA s cA (.object C) := by
    intro C h
    obtain ⟨comp, c, k, h1, h2, h3, h4, h5⟩ := Cond.arrayOver_spec h
    exact ⟨c, fun n z => ⟨fun x q => (by cases q), k, h3, comp, h4⟩, k, comp, h3, h4, h1, h5⟩
  have h : ∀ t : Nat, ∃ cA : ClassId, t < 8 → ArrOfT s cA (tysT t) ∧ va_RA s cA (tysT t) := by
    intro t
    match t with
    | 0 => obtain ⟨c, h1, h2⟩ := prim .int (hts _ (lw_all_tbl q180)); exact ⟨c, fun _ => ⟨h1, h2⟩⟩
    | 1 => obtain ⟨c, h1, h2⟩ := prim .byte (hts _ (lw_all_tbl q287)); exact ⟨c, fun _ => ⟨h1, h2⟩⟩
    | 2 => obtain ⟨c, h1, h2⟩ := prim .boolean (hts _ (lw_all_tbl q325)); exact ⟨c, fun _ => ⟨h1, h2⟩⟩
    | 3 => obtain ⟨c, h1⟩ := refs "MissedTrains$Sum" (hts _ q266); exact ⟨c, fun _ => h1⟩
    | 4 => obtain ⟨c, h1⟩ := refs "MissedTrains$Condition" (hts _ q268); exact ⟨c, fun _ => h1⟩
    | 5 => obtain ⟨c, h1⟩ := refs "MissedTrains$Train" (hts _ q137); exact ⟨c, fun _ => h1⟩
    | 6 => obtain ⟨c, h1⟩ := refs "MissedTrains$Person" (hts _ q188); exact ⟨c, fun _ => h1⟩
    | 7 => obtain ⟨comp1, cA1, kA, hcomp1, hkA, hkindA, hnameA⟩ := Cond.arrayOver_specA (hts _ q289); exact ⟨cA1, fun _ => ⟨fun n z => ⟨fun x q => (by cases q), kA, hkA, comp1, hkindA⟩, hnameA⟩⟩
    | t + 8 => exact ⟨0, fun h => absurd h (by omega)⟩
  obtain ⟨f, hf⟩ := Classical.axiomOfChoice h
  exact ⟨f, hf⟩
theorem NW_of {s : State} {b : Addr} (hts : ∀ w ∈ lw_tbl, w.before #[Value.ref b] s = true) : NW s :=
  ⟨fun a i bb n d h q => va_Nw.of rfl (hts _ q), fun a i x h q => va_Nw.of rfl (hts _ q), fun C T q => va_Nw.of rfl (hts _ q), fun x q => va_Nw.of rfl (hts _ q), fun ty q => hts _ q⟩
def strT (i : Nat) : Term := if i = 0 then .string "MissedTrains$Reader" 75 else .string "MissedTrains$Reader" 129
theorem strings_at {s : State} {b : Addr} (hgv : (Jvm.Cond.and given_1 narrow_1).before #[Value.ref b] s = true) : ∃ adK adV : Nat → Nat, vk_S 2 lenB bytB adK adV (fun q => s.heap.size ≤ q) s s.heap ∧ ∀ i : Nat, i < 2 → (strT i).eval #[Value.ref b] s none [] s = some (.ref (adK i)) := by
  have hs := flat_of_before _ hgv
  refine vk_Sof (tm := strT) ?_ ?_ ?_ ?_ ?_ ?_ ?_ (fun a ha => Nat.not_le.mpr ha)
  · intro i hi
    rcases (show i = 0 ∨ i = 1 by omega) with rfl | rfl <;> decide
  · intro i hi
    rcases (show i = 0 ∨ i = 1 by omega) with rfl | rfl <;> exact hs _ (by decide +kernel)
  · intro i hi
    rcases (show i = 0 ∨ i = 1 by omega) with rfl | rfl <;> exact hs _ (by decide +kernel)
  · intro i hi
    rcases (show i = 0 ∨ i = 1 by omega) with rfl | rfl <;> exact hs _ (by decide +kernel)
  · intro i hi
    rcases (show i = 0 ∨ i = 1 by omega) with rfl | rfl <;> exact hs _ (by decide +kernel)
  · intro i hi j hj
    rcases (show i = 0 ∨ i = 1 by omega) with rfl | rfl
    · have hj : j < 9 := hj
      rcases (show j = 0 ∨ j = 1 ∨ j = 2 ∨ j = 3 ∨ j = 4 ∨ j = 5 ∨ j = 6 ∨ j = 7 ∨ j = 8 by omega) with rfl | rfl | rfl | rfl | rfl | rfl | rfl | rfl | rfl <;> exact hs _ (by decide +kernel)
    · have hj : j < 3 := hj
      rcases (show j = 0 ∨ j = 1 ∨ j = 2 by omega) with rfl | rfl | rfl <;> exact hs _ (by decide +kernel)
  · intro i j hi hj hij
    rcases (show i = 0 ∨ i = 1 by omega) with rfl | rfl <;> rcases (show j = 0 ∨ j = 1 by omega) with rfl | rfl
    · exact absurd rfl hij
    · exact Or.inr (hs _ (by decide +kernel))
    · exact Or.inl (hs _ (by decide +kernel))
    · exact absurd rfl hij
theorem whole_start {p : Program} {e : Env} {s : State} {m : MethodId} {below : List Frame} {meth : Method} {c : Code} (l : Launch) (hflags : l.flags = flags0) {b L : Nat} {xs : Nat → Int32} (hL : L ≤ 144) (C0 : lw_At p s m meth c b L xs) : W p l e room_1 s m #[Value.ref b] below meth c s.heap [] 0 0 (lw_Z below #[Value.ref b] s) (entryFrame m ([Value.ref b] : List Value).toArray 4) := by
  obtain ⟨hx, hb, hr, hml, hown, hts, hX, hbl, hlocks, hgv⟩ := id C0
  obtain ⟨dC, dI, hKc⟩ := classes_at hts
  obtain ⟨AI, hAI⟩ := arrays_at hts
  obtain ⟨adK, adV, hS, hE⟩ := strings_at hgv
  obtain ⟨m_, dc, ds, hlaw, hdc, hds⟩ := law_one xs L s.heap.size hL
  have hs := flat_of_before _ hgv
  have hSK : SK (l, (dC, dI), AI, s.heap.size, s.heap, adK, adV) s := ⟨hS, vk_R.of (hts _ q618) (hE 0 (by decide)), vk_R.of (hts _ q484) (hE 1 (by decide)), va_Zof (hts _ q498) (hts _ (lw_all_tbl q111)) (va_eqi (hs _ (by decide +kernel))) (fun a ha => Nat.not_le.mpr ha)⟩
  have hK : KS (l, (dC, dI), AI, s.heap.size, s.heap, adK, adV) s := by
    refine ⟨⟨hKc, fun k q hk => ?_⟩, NW_of hts, hSK⟩
    unfold tysL at hk
    rw [List.getElem?_map] at hk
    cases h2 : (List.range 8)[k]? with
    | none => rw [h2] at hk; cases hk
    | some t =>
      rw [h2] at hk
      cases hk
      have ht : t < 8 := by
        have := List.mem_of_getElem? h2
        exact List.mem_range.mp this
      exact hAI t ht
  have hl := lv_entry ([.ref b]) (n := 4) (Nat.le_of_ble_eq_true rfl)
  rw [lg_entry_eq]
  generalize (lg_sl ([.ref b]) ++ List.replicate (4 - (lg_sl ([.ref b])).length) Slot.unset).toArray = ls at hl ⊢
  have hl : lv_has ls 4 [(0, .ref b)] := hl
  have F : Fix (l, (dC, dI), AI, s.heap.size, s.heap, adK, adV) (p, e, room_1, s, m, #[Value.ref b], below, meth, c) R_law code 4 ret meth.name 500 dc ds := ⟨hx, hb, hr, hlocks, hml, hown, fun w h => hts w (lw_all_tbl h), hK, ⟨(show 500 ≤ room_1.frames by decide), (show 64 * 500 ≤ room_1.locals by decide), hdc, hds⟩, rfl⟩
  have hW := law_walk (l, (dC, dI), AI, s.heap.size, s.heap, adK, adV) F (Nat.le_refl _) (b := b) (SL := L) (xs := xs) hX hbl (m := fun _ => none) (nx := s.heap.size) hlaw hdc hds (Q := lw_Z below #[Value.ref b] s) ?_
  · exact hW s.heap [] ls ⟨rfl, Nat.le_refl _, fun a e h => (by cases h), fun q _ => rfl⟩ (fun q h => by cases h) (lh.mono hl (fun j v hj => by
      cases j with
      | zero => simp at hj; subst hj; exact List.mem_cons_self
      | succ j =>
        rcases j with _ | _ | _ | j <;> simp at hj))
  · intro k n m2 nx L2 pc hk hn hdg H locs ls2 hP hLc hl2
    refine va_forget hLc (W.widen hk hn ?_)
    exact lw_ret hx hb hr hlocks hdg
set_option maxHeartbeats 4000000 in
theorem lw_walk (l : Launch) (hflags : l.flags = flags0) (b : Addr) (xs : List Int32) : MetFree l x (headSpec (Jvm.Cond.code x code maxLocals ret :: tables_1) room_1) (lw_P b xs) (fun _ _ _ _ _ => True) lw_Q := by
  refine MetFree.of_bodyS (code := code) (maxLocals := maxLocals) (ret := ret) (by decide) ?_ ?_
  · intro args s m h hn
    obtain ⟨meth, c, h1, h2, h3, h4, h5, h6, -, -⟩ := Cond.code_spec hn (atoms_spec (ws := Jvm.Cond.code x code maxLocals ret :: tables_1) h _ List.mem_cons_self)
    exact ⟨meth, c, h1, h2, h3, h4, h5, h6⟩
  · intro p e s m args below meth c s₁ B hml0 hP _
    obtain ⟨rfl, hx, hbd, hgv⟩ := hP
    obtain ⟨scr, harrAt, hlist, hof, hsmall⟩ := hx
    obtain ⟨hcb, hkn, -, -⟩ := State.arrayAt?_spec harrAt
    have hown : s.vm.findClass R_law = some m.cls := findClass_of_methodNamed B.named
    have hts0 : ∀ c ∈ (Jvm.Cond.code x code maxLocals ret :: tables_1), c.before #[Value.ref b] s = true := atoms_spec (ws := Jvm.Cond.code x code maxLocals ret :: tables_1) B.pre
    have hts : ∀ w ∈ lw_tbl, w.before #[Value.ref b] s = true := k2_hts_sels lw_privs (fun w hw => hts0 w (List.mem_cons_of_mem _ hw)) lw_privs_ok
    have hml : c.maxLocals = 4 := B.maxLocals_eq (hts0 _ List.mem_cons_self)
    have X₀ : Stand p l e room_1 s m #[Value.ref b] below meth c s₁ [] 0 0 := Stand.of_body B
    have hh0 : s₁.heap = s.heap := by rw [B.state]; rfl
    have hsz : scr.slots.size = xs.length := by rw [← Array.length_toList, hlist, List.length_map]
    have hval : ∀ j : Nat, j < xs.length → scr.slots[j]? = some (.int (xs.getD j 0)) := fun j hj => by
      rw [← Array.getElem?_toList, hlist]
      simp [hj]
    have hbl : b < s.heap.size := (Array.getElem?_eq_some_iff.mp hcb).1
    have hX : va_X b xs.length (fun j => xs.getD j 0) s s.heap := ⟨scr, hcb, hof, hkn, hsz, hval⟩
    have K : W p l e room_1 s m #[Value.ref b] below meth c s₁.heap [] 0 0 (lw_Z below #[Value.ref b] s) (entryFrame m ([Value.ref b] : List Value).toArray 4) := by
      rw [hh0]
      exact whole_start l hflags hbd ⟨B.exec, B.bytes, B.returns, hml, hown, hts, hX, hbl, B.notSynchronized, hgv⟩
    obtain ⟨t, a1, o, b1, b2, b3⟩ := K s₁ rfl X₀
    exact ⟨t, o, a1, b1, b2, b3⟩
theorem lw_pre_spec {args : Array Value} {s : State} (h : (Jvm.Cond.and given_1 narrow_1).before args s = true) (hr : rest_1_c.before args s = true) : ∃ (b : Addr) (xs : List Int32), lw_P b xs args s := by
  have hs := flat_of_before _ h
  have hq := flat_of_before _ hr
  have hc : (Cond.count 1).before args s = true := hs _ (by decide +kernel)
  have harr : (Cond.arrayOf (.arg 0) .int).before args s = true := hs _ (by decide +kernel)
  have hle : (Cond.le (.length (.arg 0)) (.int 144)).before args s = true := hs _ (by decide +kernel)
  have hlen : (Cond.isInt (.length (.arg 0))).before args s = true := hq _ (by decide +kernel)
  have hall : (Cond.all (.arg 0) (.isInt (.elem (.arg 0) (.index 0)))).before args s = true := hq _ (by decide +kernel)
  obtain ⟨b, xs, hb, hx⟩ := State.ints_of_pre rfl harr hlen hall
  have hsm : xs.length < 2 ^ 31 := hx.choose_spec.2.2.2
  have hev : (Term.length (.arg 0)).eval args s none [] s = some (.int xs.length.toInt32) := hx.length_eval hb
  have hv := Cond.le_ints hev (show (Term.int 144).eval args s none [] s = some (.int 144) from rfl)
  have hd : xs.length.toInt32 ≤ 144 := by
    simpa [Cond.before, Cond.holds, hv] using hle
  have hN : xs.length ≤ 144 := (Int32.ofNat_le_ofNat hsm (by decide)).mp (show Int32.ofNat xs.length ≤ Int32.ofNat 144 from hd)
  exact ⟨b, xs, Cond.one_arg hc (show args[0]? = some (.ref b) from hb), hx, hN, h⟩
theorem lw_comes (l : Launch) (hflags : l.flags = flags0) : Comes l x (Jvm.Cond.code x code maxLocals ret :: tables_1) room_1 (fun tb e args s => Calls_1 tb e args s ∧ rest_1 tb e args s ∧ Pre_1 tb e args s)
    (fun _ _ args s o t => lw_Q args s o t) := by
  intro p e ha hc hk s m args below hf hfit hheap happ hpre
  obtain ⟨b, xs, hP⟩ := lw_pre_spec hpre.2.2 hpre.2.1
  obtain ⟨k, o, h1, h2, h3, hQ⟩ := lw_walk l hflags b xs p e ha hc hk s m args below hf ((Spec.applies_iff_loose hf).mp happ).1 hP trivial
  exact ⟨k, o, h1, h2, h3, hQ⟩
theorem lw_frame {s t : State} {o : Outcome} {args : Array Value} (h : Framed s o t [] 1200000 5502250) :
    Framed s o t (fieldLocs frame_1_writes args s ++ arrayLocs frame_1_arrays args s ++ staticLocs frame_1_statics s) 1200000 5502250 := h
theorem lw_limb (L : Cond) (hL : ∀ (args : Array Value) (s t : State), L.after args s (.returned (some (.int 1))) t = true) :
    ArmFor flags0 classFile x code maxLocals ret World_1 tables_1 room_1 Calls_1 rest_1 Pre_1
      (fun tb e a s o t => postC L tb e a s o t ∧ Framed s o t (fieldLocs frame_1_writes a s ++ arrayLocs frame_1_arrays a s ++ staticLocs frame_1_statics s) 1200000 5502250) := by
  intro l hflags _ _ p e ha hc hk s m args below hf hfit hheap happ hpre
  obtain ⟨k, o, h1, h2, h3, rfl, hF⟩ := lw_comes l hflags p e ha hc hk s m args below hf hfit hheap happ hpre
  exact ⟨k, _, h1, h2, h3, hL args s _, lw_frame hF⟩
theorem i_vc : Claimed_1_1 ∧ Claimed_1_2 := ⟨lw_limb limb_1_1 (fun args s t => by simp [limb_1_1, Cond.after, Cond.holds, Cond.value]), lw_limb limb_1_2 (fun args s t => Cond.after_iff.mpr (by
  first | (rw [show limb_1_2 = Cond.eq .result (.int 1) from rfl, Cond.eq_ints (x := 1) (y := 1) rfl rfl]; simp; done) | (simp [limb_1_2, Cond.value, Term.eval]; done)))⟩
