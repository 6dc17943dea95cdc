theorem law_one (xs : Nat → Int32) (L nx : Nat) (hL : L ≤ 144) : ∃ (m_ : Hp) (dc ds : Nat), fLaw xs L (fun _ => none) nx = some (((1 : Int32), m_), dc, ds) ∧ dc ≤ 1200000 ∧ ds ≤ 5502250 := sorry
