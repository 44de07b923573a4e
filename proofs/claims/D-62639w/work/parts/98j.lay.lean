def ent (tf : Nat → Nat → Int32) (i a b : Nat) (x : Int32) (k : Nat) : Prop := tf 35 i = nI a ∧ tf 36 i = nI b ∧ tf 37 i = x ∧ tf 38 i = nI k
/-- how many orders an operation has -/
def szo (o : Nat) : Nat := if o = 0 ∨ o = 1 ∨ o = 4 then 3 else if o = 2 then 2 else 1
/-- the orders of a statement s, from i on -/
def entP (tf : Nat → Nat → Int32) (i k o : Nat) (s : Nat → Int32) : Prop :=
  (o = 0 → ent tf i 2 6 (s 1) k ∧ ent tf (i + 1) 2 9 (s 2) k ∧ ent tf (i + 2) 6 2 (s 3) k) ∧
  (o = 1 → ent tf i 2 6 (s 1) k ∧ ent tf (i + 1) 2 10 (s 2) k ∧ ent tf (i + 2) 6 2 (s 3) k) ∧
  (o = 2 → ent tf i 2 6 (s 1) k ∧ ent tf (i + 1) 6 2 (s 3) k) ∧
  (o = 3 → ent tf i 2 15 (s 1) k) ∧
  (o = 4 → ent tf i 2 11 (s 1) k ∧ ent tf (i + 1) 0 0 (-1) k ∧ ent tf (i + 2) 0 0 (-1) k) ∧
  (o = 5 → ent tf i 13 2 (s 3) k) ∧ (o = 6 → ent tf i 0 1 (-1) k)
/-- the kinds of orders, out of the model's list -/
def kdT (tf : Nat → Nat → Int32) (j : Nat) : Nat := if tf 36 j = 1 then 1 else if tf 36 j = 0 ∧ tf 36 (j - 1) = 0 then 2 else 0
def nxT (tf : Nat → Nat → Int32) (j : Nat) : Nat := if tf 36 j = 0 then j + 2 else j + 1
def goT (tf : Nat → Nat → Int32) (j : Nat) : Int32 := tf 33 (tf 38 j).toNatClampNeg
theorem kd_ord {tf : Nat → Nat → Int32} {i a b k : Nat} {x : Int32} (h : ent tf i a b x k) (h2 : 2 ≤ b) (h3 : b < 16) : kdT tf i = 0 ∧ nxT tf i = i + 1 := by
  have e0 : ¬ tf 36 i = 0 := by rw [h.2.1]; exact nI_ne0 (by omega) (by omega)
  have e1 : ¬ tf 36 i = 1 := by
    rw [h.2.1]
    intro q
    have := (nI_eq (b := 1) (by omega) (by decide)).mp q
    omega
  unfold kdT nxT
  rw [if_neg e1, if_neg (fun q => e0 q.1), if_neg e0]
  exact ⟨rfl, rfl⟩
/-- nothing more is placed -/
theorem free_tot {t : Nat → Nat → Int32} {v : Nat → Int32} {f : Nat → Nat → Int32} {u : Nat → Nat → Int32} {la : Nat → Option Nat} {fr : Nat} (hfr : fr < 32) (h8 : v 8 = nI fr) : ∃ z, F_As_free t v f u la = some z := by
  obtain ⟨z, z1, -⟩ := free_lp (t := t) (v := v) (f := f) (u := u) (la := la) (tv := fun _ => 0) (tf := fun k => if k = 41 then f 3 else fun _ => 0) hfr h8 (fun _ _ => rfl) 32 0 100 (by omega) (by omega)
  exact ⟨z, z1⟩
theorem place_not {t : Nat → Nat → Int32} {v : Nat → Int32} {f : Nat → Nat → Int32} {u : Nat → Nat → Int32} {la : Nat → Option Nat} {fr : Nat} (x1 x2 x3 : Int32) (hfr : fr < 32) (h8 : v 8 = nI fr) (h9 : v 9 = 0) : F_As_place t x1 x2 x3 v f u la = some (none, v, f, u, la) := by
  obtain ⟨z, z1⟩ := free_tot (t := t) (f := f) (u := u) (la := la) hfr h8
  unfold F_As_place F_As_place_21
  rw [z1, Option.bind_some, h9]
  have e : ∀ y : Int32, y = 0 ∨ y = 1 → (0 : Int32) &&& y = 0 := by
    rintro y (rfl | rfl) <;> decide
  split
  · rw [e 0 (Or.inl rfl), if_pos (Or.inl rfl), if_pos rfl, up_id v 9 _ h9]
  · rw [e 1 (Or.inr rfl), if_pos (Or.inl rfl), if_pos rfl, up_id v 9 _ h9]
theorem fork_not {t : Nat → Nat → Int32} {v : Nat → Int32} {f : Nat → Nat → Int32} {u : Nat → Nat → Int32} {la : Nat → Option Nat} (x1 : Int32) (h9 : v 9 = 0) : F_As_fork t x1 v f u la = some (v, f, u, la) := by
  unfold F_As_fork
  rw [F_As_fork_7, if_neg (by decide), if_neg (by decide), if_pos h9]
  unfold F_As_fork_72 F_As_fork_86
  rw [if_pos (by decide), h9, show (0 : Int32) &&& 0 = 0 from by decide, if_pos (Or.inl rfl), if_pos rfl, up_id v 9 _ h9]
