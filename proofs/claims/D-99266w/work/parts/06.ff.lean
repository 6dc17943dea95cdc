/-! THE PURE MACHINE'S MEMORY: what the functional forms are written in. No JVM here. -/
/-- a value: an int, or a reference (none: null) -/
abbrev Vl : Type := Int32 ⊕ Option Nat
/-- an array's contents -/
abbrev ArC : Type := (Nat → Int32) ⊕ (Nat → Option Nat)
/-- a cell: an array (kind, length, contents), or an object (class, fields) -/
abbrev Cel : Type := (Nat × Nat × ArC) ⊕ (Nat × List Vl)
abbrev Hp : Type := Nat → Option Cel
def hp_set (m : Hp) (a : Nat) (c : Cel) : Hp := fun q => if q = a then some c else m q
def hp_upI (f : Nat → Int32) (k : Nat) (x : Int32) : Nat → Int32 := fun j => if j = k then x else f j
def hp_upR (f : Nat → Option Nat) (k : Nat) (x : Option Nat) : Nat → Option Nat := fun j => if j = k then x else f j
def hp_cls (m : Hp) (r : Option Nat) : Option Nat := match r with
  | none => none
  | some a => match m a with
    | some (.inr (c, _)) => some c
    | _ => none
def hp_gV (m : Hp) (r : Option Nat) (ci k : Nat) : Option Vl := match r with
  | none => none
  | some a => match m a with
    | some (.inr (c, fs)) => if c = ci then fs[k]? else none
    | _ => none
def hp_gI (m : Hp) (r : Option Nat) (ci k : Nat) : Option Int32 := match hp_gV m r ci k with
  | some (.inl x) => some x
  | _ => none
def hp_gR (m : Hp) (r : Option Nat) (ci k : Nat) : Option (Option Nat) := match hp_gV m r ci k with
  | some (.inr x) => some x
  | _ => none
def hp_pV (m : Hp) (r : Option Nat) (ci k : Nat) (v : Vl) : Option Hp := match r with
  | none => none
  | some a => match m a with
    | some (.inr (c, fs)) => if c = ci ∧ k < fs.length then some (hp_set m a (.inr (c, fs.set k v))) else none
    | _ => none
def hp_pI (m : Hp) (r : Option Nat) (ci k : Nat) (x : Int32) : Option Hp := hp_pV m r ci k (.inl x)
def hp_pZ (m : Hp) (r : Option Nat) (ci k : Nat) (x : Int32) : Option Hp := if x = 0 ∨ x = 1 then hp_pV m r ci k (.inl x) else none
def hp_pR (m : Hp) (r : Option Nat) (ci k : Nat) (x : Option Nat) : Option Hp := hp_pV m r ci k (.inr x)
def hp_arr (m : Hp) (r : Option Nat) (t : Nat) : Option (Nat × ArC) := match r with
  | none => none
  | some a => match m a with
    | some (.inl (t', n, c)) => if t' = t then some (n, c) else none
    | _ => none
def hp_in (i : Int32) (n : Nat) : Bool := decide (¬ (i < 0 ∨ n ≤ i.toNatClampNeg))
def hp_aI (m : Hp) (r : Option Nat) (t : Nat) (i : Int32) : Option Int32 := match hp_arr m r t with
  | some (n, .inl f) => if hp_in i n then some (f i.toNatClampNeg) else none
  | _ => none
def hp_aR (m : Hp) (r : Option Nat) (t : Nat) (i : Int32) : Option (Option Nat) := match hp_arr m r t with
  | some (n, .inr f) => if hp_in i n then some (f i.toNatClampNeg) else none
  | _ => none
/-- what an array of ints (0), bytes (1), booleans (2) keeps of an int -/
def hp_nar (t : Nat) (x : Int32) : Int32 := if t = 1 then x.toInt8.toInt32 else if t = 2 then x &&& 1 else x
def hp_sI (m : Hp) (r : Option Nat) (t : Nat) (i x : Int32) : Option Hp := match r with
  | none => none
  | some a => match hp_arr m (some a) t with
    | some (n, .inl f) => if hp_in i n then some (hp_set m a (.inl (t, n, .inl (hp_upI f i.toNatClampNeg (hp_nar t x))))) else none
    | _ => none
/-- which class's objects an array of references may hold: 3 Sum, 4 Condition, 5 Train, 6 Person -/
def hp_okc (t c : Nat) : Bool := (t == 3 && (c == 8 || c == 9 || c == 10)) || (t == 4 && (c == 11 || c == 12 || c == 13)) || (t == 5 && c == 5) || (t == 6 && c == 3)
def hp_okr (m : Hp) (t : Nat) (v : Option Nat) : Bool := match v with
  | none => true
  | some _ => match hp_cls m v with
    | some c => hp_okc t c
    | none => false
def hp_sR (m : Hp) (r : Option Nat) (t : Nat) (i : Int32) (v : Option Nat) : Option Hp := match r with
  | none => none
  | some a => match hp_arr m (some a) t with
    | some (n, .inr f) => if hp_in i n ∧ hp_okr m t v = true then some (hp_set m a (.inl (t, n, .inr (hp_upR f i.toNatClampNeg v)))) else none
    | _ => none
def hp_len (m : Hp) (r : Option Nat) (t : Nat) : Option Int32 := match hp_arr m r t with
  | some (n, _) => some (Int32.ofNat n)
  | none => none
/-- a call on an object: of just this class -/
def hp_on {α : Type} (m : Hp) (r : Option Nat) (ci : Nat) (x : Option α) : Option α := if hp_cls m r = some ci then x else none
/-- .. of one of Sum's three -/
def hp_onS {α : Type} (m : Hp) (r : Option Nat) (x : Option α) : Option α := if hp_cls m r = some 8 ∨ hp_cls m r = some 9 ∨ hp_cls m r = some 10 then x else none
def hp_z (x : Int32) : Option Int32 := if x = 0 ∨ x = 1 then some x else none
def jrem (x y : Int32) : Int32 := x - x / y * y
def jshl (x y : Int32) : Int32 := x <<< (y &&& 31)
def jshr (x y : Int32) : Int32 := x >>> (y &&& 31)
def j2b (x : Int32) : Int32 := x.toInt8.toInt32
def jmax (x y : Int32) : Int32 := if x < y then y else x
def jmin (x y : Int32) : Int32 := if y < x then y else x
/-- String.indexOf(int) of a short Latin-1 text -/
def jidx : List Int32 → Int32 → Nat → Int32
  | [], _, _ => -1
  | w :: ws, c, i => if c = w then Int32.ofNat i else jidx ws c (i + 1)
/-- "rsklnpfyu".indexOf(c), "dcm".indexOf(c) -/
def strS (c : Int32) : Int32 := jidx [114, 115, 107, 108, 110, 112, 102, 121, 117] c 0
def strC (c : Int32) : Int32 := jidx [100, 99, 109] c 0
/-- the law's script -/
def sld (xs : Nat → Int32) (SL : Nat) (i : Int32) : Option Int32 := if hp_in i SL then some (xs i.toNatClampNeg) else none
/-- new cells -/
def hp_newa (m : Hp) (nx t n : Nat) : Hp := hp_set m nx (.inl (t, n, .inl fun _ => 0))
def hp_newr (m : Hp) (nx t n : Nat) : Hp := hp_set m nx (.inl (t, n, .inr fun _ => none))
def hp_newg (m : Hp) (nx n k : Nat) : Hp := fun q => if q = nx then some (.inl (7, n, .inr fun i => if i < n then some (nx + 1 + i) else none)) else if nx < q ∧ q ≤ nx + n then some (.inl (0, k, .inl fun _ => 0)) else m q
/-- loops -/
def iter {σ ρ : Type} (b : σ → Option (σ ⊕ ρ)) : Nat → σ → Option ρ
  | 0, _ => none
  | n + 1, s => match b s with
    | none => none
    | some (.inl s') => iter b n s'
    | some (.inr r) => some r
def iterA {σ ρ : Type} (b : σ → Nat → Option ((σ ⊕ ρ) × Nat × Nat)) : Nat → σ → Nat → Option (ρ × Nat × Nat)
  | 0, _, _ => none
  | n + 1, s, nx => match b s nx with
    | none => none
    | some (.inl s', d, c) => (iterA b n s' (nx + d)).map fun q => (q.1, d + q.2.1, c + q.2.2)
    | some (.inr r, d, c) => some (r, d, c)
def FUEL : Nat := 2000
def andA {α : Type} (d c : Nat) (x : Option (α × Nat × Nat)) : Option (α × Nat × Nat) := x.map fun q => (q.1, d + q.2.1, c + q.2.2)
theorem bnd {α β : Type} {x : Option α} {f : α → Option β} {r : β} (h : x.bind f = some r) : ∃ a, x = some a ∧ f a = some r := Option.bind_eq_some_iff.mp h
theorem itt {c : Prop} [Decidable c] {α : Type} {a b x : α} (q : c) (h : (if c then a else b) = x) : a = x := by rw [if_pos q] at h; exact h
theorem itf {c : Prop} [Decidable c] {α : Type} {a b x : α} (q : ¬ c) (h : (if c then a else b) = x) : b = x := by rw [if_neg q] at h; exact h
theorem andA_of {α : Type} {d c : Nat} {x : Option (α × Nat × Nat)} {r : α} {D C : Nat} (h : andA d c x = some (r, D, C)) : ∃ D' C', x = some (r, D', C') ∧ D = d + D' ∧ C = c + C' := by
  cases hx : x with
  | none => rw [hx] at h; cases h
  | some q =>
    obtain ⟨q1, q2, q3⟩ := q
    rw [hx] at h
    cases h
    exact ⟨q2, q3, rfl, rfl, rfl⟩
theorem hp_on_of {α : Type} {m : Hp} {r : Option Nat} {ci : Nat} {x : Option α} {v : α} (h : hp_on m r ci x = some v) : hp_cls m r = some ci ∧ x = some v := by
  unfold hp_on at h
  split at h
  · exact ⟨‹_›, h⟩
  · cases h
theorem hp_onS_of {α : Type} {m : Hp} {r : Option Nat} {x : Option α} {v : α} (h : hp_onS m r x = some v) : (hp_cls m r = some 8 ∨ hp_cls m r = some 9 ∨ hp_cls m r = some 10) ∧ x = some v := by
  unfold hp_onS at h
  split at h
  · exact ⟨‹_›, h⟩
  · cases h
theorem hp_z_of {x v : Int32} (h : hp_z x = some v) : v = x ∧ (x = 0 ∨ x = 1) := by
  unfold hp_z at h
  split at h
  · exact ⟨(Option.some.inj h).symm, ‹_›⟩
  · cases h
theorem iter_ok {σ ρ : Type} {b : σ → Option (σ ⊕ ρ)} (P : σ → Prop) (E : ρ → Prop) (hs : ∀ s o, b s = some o → (∀ s', o = Sum.inl s' → P s') → (∀ q, o = Sum.inr q → E q) → P s) : ∀ (n : Nat) (s : σ) (r : ρ), iter b n s = some r → E r → P s := by
  intro n
  induction n with
  | zero => intro s r h; cases h
  | succ n ih =>
    intro s r h hr
    rw [iter] at h
    cases hb : b s with
    | none => rw [hb] at h; cases h
    | some q =>
      rw [hb] at h
      cases q with
      | inl s' => exact hs s _ hb (fun s2 e => by cases e; exact ih s' r h hr) (fun q e => by cases e)
      | inr r' => cases h; exact hs s _ hb (fun s2 e => by cases e) (fun q e => by cases e; exact hr)
theorem iterA_ok {σ ρ : Type} {b : σ → Nat → Option ((σ ⊕ ρ) × Nat × Nat)} (mc ms : Nat) (P : σ → Nat → Nat → Nat → Prop) (E : ρ → Nat → Nat → Nat → Prop)
    (hs : ∀ s nx k n o d c, b s nx = some (o, d, c) → k + d ≤ mc → n + c ≤ ms → (∀ s', o = Sum.inl s' → P s' (nx + d) (k + d) (n + c)) → (∀ q, o = Sum.inr q → E q (nx + d) (k + d) (n + c)) → P s nx k n) :
    ∀ (N : Nat) (s : σ) (nx k n : Nat) (r : ρ) (d c : Nat), iterA b N s nx = some (r, d, c) → k + d ≤ mc → n + c ≤ ms → E r (nx + d) (k + d) (n + c) → P s nx k n := by
  intro N
  induction N with
  | zero => intro s nx k n r d c h; cases h
  | succ N ih =>
    intro s nx k n r d c h hk hn hr
    rw [iterA] at h
    cases hb : b s nx with
    | none => rw [hb] at h; cases h
    | some q =>
      rw [hb] at h
      obtain ⟨q, d1, c1⟩ := q
      cases q with
      | inl s' =>
        cases hi : iterA b N s' (nx + d1) with
        | none => simp [hi] at h
        | some w =>
          obtain ⟨r2, d2, c2⟩ := w
          simp only [hi, Option.map_some, Option.some.injEq, Prod.mk.injEq] at h
          obtain ⟨rfl, rfl, rfl⟩ := h
          refine hs s nx k n _ d1 c1 hb (by omega) (by omega) (fun s3 e => by cases e; exact ih s' (nx + d1) (k + d1) (n + c1) r2 d2 c2 hi (by omega) (by omega) (by rw [Nat.add_assoc, Nat.add_assoc, Nat.add_assoc]; exact hr)) (fun q e => by cases e)
      | inr r' =>
        simp only [Option.some.injEq, Prod.mk.injEq] at h
        obtain ⟨rfl, rfl, rfl⟩ := h
        exact hs s nx k n _ _ _ hb hk hn (fun s2 e => by cases e) (fun q e => by cases e; exact hr)
theorem lf3 {α : Type} {a a' : α} {b b' c c' : Nat} (h : some (a, b, c) = some (a', b', c')) : a = a' ∧ b = b' ∧ c = c' := by
  cases h
  exact ⟨rfl, rfl, rfl⟩
/-- a new MissedTrains: its fields' first values -/
def dfX0 : List Vl := [.inr none, .inr none, .inr none, .inl 0, .inl 0, .inl 0, .inr none, .inr none, .inr none, .inr none, .inr none, .inr none, .inl 0, .inl 0, .inr none, .inr none, .inr none, .inr none, .inr none, .inr none, .inr none, .inr none]
/-- a new MissedTrains$Moment: its fields' first values -/
def dfX2 : List Vl := [.inl 0, .inl 0, .inl 0, .inl 0, .inl 0, .inl 0, .inl 0, .inl 0, .inl 0, .inl 0]
/-- a new MissedTrains$Platform: its fields' first values -/
def dfX3 : List Vl := [.inr none, .inr none, .inr none, .inl 0, .inl 0, .inl 0, .inl 0, .inl 0, .inr none]
/-- a new MissedTrains$Person: its fields' first values -/
def dfX4 : List Vl := [.inl 0, .inl 0, .inl 0, .inl 0, .inl 0, .inl 0]
/-- a new MissedTrains$Text: its fields' first values -/
def dfX5 : List Vl := [.inr none, .inr none, .inr none, .inl 0]
/-- a new MissedTrains$Train: its fields' first values -/
def dfX6 : List Vl := [.inr none, .inr none, .inl 0, .inl 0, .inl 0]
/-- a new MissedTrainsModel: its fields' first values -/
def dfX7 : List Vl := [.inr none, .inr none, .inr none, .inr none, .inr none, .inr none, .inr none, .inr none, .inr none, .inr none, .inr none, .inr none, .inr none, .inl 0, .inl 0, .inl 0, .inr none, .inl 0, .inl 0, .inl 0, .inl 0, .inl 0, .inl 0, .inl 0, .inl 0, .inl 0, .inl 0, .inr none, .inr none, .inr none, .inr none, .inr none, .inr none, .inr none, .inr none, .inr none, .inr none, .inr none, .inr none, .inr none, .inr none, .inr none, .inr none, .inl 0, .inl 0, .inr none, .inr none, .inr none, .inr none, .inl 0, .inr none, .inr none, .inl 0, .inl 0, .inl 0, .inr none, .inr none, .inr none, .inr none, .inr none, .inr none, .inr none, .inr none, .inr none, .inr none, .inl 0]
/-- a new MissedTrains$Reader: its fields' first values -/
def dfX8 : List Vl := [.inl 0, .inr none, .inl 0, .inl 0, .inl 0, .inl 0, .inr none]
/-- a new MissedTrains$Row: its fields' first values -/
def dfX10 : List Vl := [.inl 0, .inr none, .inr none]
/-- a new MissedTrains$Number: its fields' first values -/
def dfX11 : List Vl := [.inl 0]
/-- a new MissedTrains$Letter: its fields' first values -/
def dfX12 : List Vl := [.inl 0]
/-- a new MissedTrains$Some: its fields' first values -/
def dfX14 : List Vl := [.inr none, .inl 0, .inr none]
/-- a new MissedTrains$Not: its fields' first values -/
def dfX15 : List Vl := [.inr none]
/-- a new MissedTrains$Compared: its fields' first values -/
def dfX16 : List Vl := [.inr none, .inr none, .inl 0]
/-- a new MissedTrains$Clerk: its fields' first values -/
def dfX18 : List Vl := [.inl 0, .inl 0, .inl 0, .inl 0, .inr none, .inr none, .inr none, .inr none, .inl 0, .inr none]
/-- a new MissedTrains$Porter: its fields' first values -/
def dfX19 : List Vl := [.inl 0, .inl 0, .inl 0, .inl 0, .inr none, .inr none, .inr none, .inr none]
