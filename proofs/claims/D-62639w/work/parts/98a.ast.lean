/-- a statement that was taken -/
def stOk (s : Nat → Int32) : Prop := ∃ o a b c : Nat, o < 7 ∧ a < 16 ∧ b < 16 ∧ c < 16 ∧ s 0 = nI o ∧ s 1 = nI a ∧ s 2 = nI b ∧ s 3 = nI c ∧ (o = 4 → ∃ g, g < 12 ∧ s 4 = nI g)
/-- the assembler's statements -/
def rAs (n : Nat) (t tf : Nat → Nat → Int32) : Prop := ∀ i, i < n → (tf 29 i = t i 0 ∧ tf 30 i = t i 1 ∧ tf 31 i = t i 2 ∧ tf 32 i = t i 3 ∧ tf 33 i = t i 4) ∧ stOk (t i)
/-- what was kept -/
def rAk (f tf : Nat → Nat → Int32) (k44 : Int32) : Prop := (∀ j, j < 16 → tf 46 j = f 6 j) ∧ ∃ k, k ≤ 12 ∧ k44 = nI k ∧ (∀ j, j < k → tf 45 j = f 7 j) ∧ ∀ j, k ≤ j → j < 12 → f 7 j = -1
def rA (t : Nat → Nat → Int32) (v : Nat → Int32) (f : Nat → Nat → Int32) (tv : Nat → Int32) (tf : Nat → Nat → Int32) : Prop :=
  (∃ n, n ≤ 12 ∧ v 21 = nI n ∧ tv 28 = nI n ∧ rAs n t tf) ∧ (∃ m, m ≤ 37 ∧ v 20 = nI m) ∧ rAk f tf (tv 44)
theorem rA.fT {t : Nat → Nat → Int32} {v : Nat → Int32} {f : Nat → Nat → Int32} {tv : Nat → Int32} {tf : Nat → Nat → Int32} {tv1 : Nat → Int32} {tf1 : Nat → Nat → Int32} (h : rA t v f tv tf) (hf : fT tv tf tv1 tf1) : rA t v f tv1 tf1 := by
  obtain ⟨⟨n, h1, h2, h3, h4⟩, h5, h6, k, h7, h8, h9, h10⟩ := h
  refine ⟨⟨n, h1, h2, by rw [hf.1 28 (by decide)]; exact h3, ?_⟩, h5, ?_, k, h7, by rw [hf.1 44 (by decide)]; exact h8, ?_, h10⟩
  · intro i hi
    rw [hf.2 29 (by decide), hf.2 30 (by decide), hf.2 31 (by decide), hf.2 32 (by decide), hf.2 33 (by decide)]
    exact h4 i hi
  · rw [hf.2 46 (by decide)]
    exact h6
  · rw [hf.2 45 (by decide)]
    exact h9
/-- all of the relation -/
def LRel (B : Nat) (mv : Nat → Int32) (mf : Nat → Nat → Int32) (mi : Nat → Nat) (t : Nat → Nat → Int32) (v : Nat → Int32) (f : Nat → Nat → Int32) (_u : Nat → Nat → Int32) (_la : Nat → Option Nat) (tv : Nat → Int32) (tf : Nat → Nat → Int32) : Prop :=
  (∃ N, N ≤ B ∧ rM N mv mf mi tv tf) ∧ rA t v f tv tf
/-- the machine looks at none of the statements -/
theorem rM.keep {N : Nat} {mv : Nat → Int32} {mf : Nat → Nat → Int32} {mi : Nat → Nat} {tv tv1 : Nat → Int32} {tf tf1 mf1 : Nat → Nat → Int32} (h : rM N mv mf mi tv tf) (h1 : ∀ k, k < 28 → tv1 k = tv k) (h2 : ∀ k, k < 27 → k ≠ 0 → tf1 k = tf k) (h3 : ∀ k, k ≠ 0 → mf1 k = mf k) (h4 : rO (mf1 0) (tf1 0)) : rM N mv mf1 mi tv1 tf1 := by
  obtain ⟨a1, a2, a3, a4, a5, a6, a7, a8, a9, a10, a11, a12⟩ := h
  unfold rM
  rw [h1 2 (by decide), h1 4 (by decide), h1 3 (by decide), h1 7 (by decide), h1 8 (by decide), h1 9 (by decide), h1 17 (by decide), h1 18 (by decide), h1 19 (by decide), h1 20 (by decide), h1 23 (by decide), h1 24 (by decide), h1 25 (by decide), h1 27 (by decide), h2 1 (by decide) (by decide), h2 21 (by decide) (by decide), h2 22 (by decide) (by decide), h2 26 (by decide) (by decide), h3 9 (by decide), h3 10 (by decide)]
  refine ⟨a1, a2, a3, a4, a5, h4, rWd_of a7 (fun k hk _ => h3 k (by omega)), a8, a9, a10, a11, fun hg => ?_⟩
  obtain ⟨D, b, l, A, Z, A0, Z0, g⟩ := a12 hg
  refine ⟨D, b, l, A, Z, A0, Z0, ?_⟩
  rw [h1 5 (by decide), h1 6 (by decide), h1 10 (by decide), h1 11 (by decide), h1 12 (by decide), h1 13 (by decide), h1 14 (by decide), h1 15 (by decide), h1 16 (by decide)]
  exact g
theorem isVar_sp (x : Int32) : ((∃ j, j < 16 ∧ x = nI j) ∧ F_Mo_isVariable x = some 1) ∨ ((¬ ∃ j, j < 16 ∧ x = nI j) ∧ F_Mo_isVariable x = some 0) := by
  exact within_sp x 16 (by decide)
theorem statement_ok {t : Nat → Nat → Int32} {v : Nat → Int32} {f : Nat → Nat → Int32} {u : Nat → Nat → Int32} {la : Nat → Option Nat} {tv : Nat → Int32} {tf : Nat → Nat → Int32} (x1 x2 x3 x4 x5 : Int32) (h : rA t v f tv tf) :
    ∃ (r : Int32) (t1 : Nat → Nat → Int32) (v1 : Nat → Int32) (tv1 : Nat → Int32) (tf1 : Nat → Nat → Int32), F_DM_statement t x1 x2 x3 x4 x5 v f u la = some (r, t1, v1) ∧ F_Mo_statement x1 x2 x3 x4 x5 tv tf = some (r, tv1, tf1) ∧ rA t1 v1 f tv1 tf1 ∧ (∀ k, k < 28 → tv1 k = tv k) ∧ ∀ k, k < 27 → tf1 k = tf k := by
  have h' := h
  obtain ⟨⟨n, h1, h2, h3, h4⟩, h5, h6, k, h7, h8, h9, h10⟩ := h
  have bad : ∃ (r : Int32) (t1 : Nat → Nat → Int32) (v1 : Nat → Int32) (tv1 : Nat → Int32) (tf1 : Nat → Nat → Int32), F_DM_statement_56 t x1 x2 x3 x4 x5 v f u la = some (r, t1, v1) ∧ F_Mo_statement_53 x1 x2 x3 x4 x5 tv tf = some (r, tv1, tf1) ∧ rA t1 v1 f tv1 tf1 ∧ (∀ k, k < 28 → tv1 k = tv k) ∧ ∀ k, k < 27 → tf1 k = tf k := by
    refine ⟨-1, t, v, tv, tf, rfl, ?_, h', fun _ _ => rfl, fun _ _ => rfl⟩
    unfold F_Mo_statement_53 F_Mo_statement_54 F_Mo_statement_70
    split
    · rfl
    · rw [if_pos rfl]
  have good : stOk (stf x1 x2 x3 x4 x5) → ∃ (r : Int32) (t1 : Nat → Nat → Int32) (v1 : Nat → Int32) (tv1 : Nat → Int32) (tf1 : Nat → Nat → Int32), F_DM_statement_52 t x1 x2 x3 x4 x5 v f u la = some (r, t1, v1) ∧ F_Mo_statement_49 x1 x2 x3 x4 x5 tv tf = some (r, tv1, tf1) ∧ rA t1 v1 f tv1 tf1 ∧ (∀ k, k < 28 → tv1 k = tv k) ∧ ∀ k, k < 27 → tf1 k = tf k := by
    intro ho
    unfold F_DM_statement_52 F_DM_statement_57 F_Mo_statement_49 F_Mo_statement_54 F_AL_size_s F_DM_statement_79 F_Mo_statement_70
    rw [if_neg i10, Option.bind_some, h2, h3]
    by_cases hn : n = 12
    · subst hn
      exact ⟨-1, t, v, tv, tf, rfl, rfl, h', fun _ _ => rfl, fun _ _ => rfl⟩
    · have q1 : ¬ nI n = (12 : Int32) := fun q => hn ((nI_eq (b := 12) (by omega) (by decide)).mp q)
      have q2 : ¬ (nI n < 0 ∨ 12 ≤ (nI n).toNatClampNeg) := nI_in (by omega) (by decide)
      rw [if_neg q1, if_neg q1, if_neg i10, if_neg q2, if_neg q2, if_neg q2, if_neg q2, if_neg q2, nI_clamp (by omega), if_neg (show ¬ 12 ≤ n by omega)]
      refine ⟨_, _, _, _, _, rfl, rfl, ⟨⟨n + 1, by omega, nI_1 n, nI_1 n, ?_⟩, h5, h6, k, h7, h8, h9, h10⟩, fun k hk => va_up_ne _ _ (by omega), fun k hk => ?_⟩
      · intro i hi
        show (upd (tf 29) n x1 i = va_up t n (stf x1 x2 x3 x4 x5) i 0 ∧ upd (tf 30) n x2 i = va_up t n (stf x1 x2 x3 x4 x5) i 1 ∧ upd (tf 31) n x3 i = va_up t n (stf x1 x2 x3 x4 x5) i 2 ∧ upd (tf 32) n x4 i = va_up t n (stf x1 x2 x3 x4 x5) i 3 ∧ upd (tf 33) n x5 i = va_up t n (stf x1 x2 x3 x4 x5) i 4) ∧ stOk (va_up t n (stf x1 x2 x3 x4 x5) i)
        by_cases hin : i = n
        · subst hin
          rw [pk_us, pk_us, pk_us, pk_us, pk_us, va_up_self]
          exact ⟨⟨rfl, rfl, rfl, rfl, rfl⟩, ho⟩
        · rw [pk_un hin, pk_un hin, pk_un hin, pk_un hin, pk_un hin, va_up_ne _ _ hin]
          exact h4 i (by omega)
      · rw [va_up_ne _ _ (by omega), va_up_ne _ _ (by omega), va_up_ne _ _ (by omega), va_up_ne _ _ (by omega), va_up_ne _ _ (by omega)]
  unfold F_DM_statement F_Mo_statement
  rcases within_sp x1 7 (by decide) with ⟨⟨o, ho, rfl⟩, e1⟩ | ⟨e0, e1⟩
  · have e1 : F_DM_within (nI o) (7 : Int32) = some 1 := e1
    rw [e1, Option.bind_some, if_neg i10, if_neg (show ¬ nI o < 0 from nI_pos (by omega)), if_neg (show ¬ (6 : Int32) < nI o from nI_nlt (a := 6) (by omega) (by decide))]
    rcases isVar_sp x2 with ⟨⟨a, ha, rfl⟩, e2⟩ | ⟨e0, e2⟩
    · have e2' : F_DM_within (nI a) (16 : Int32) = some 1 := e2
      rw [e2, e2', Option.bind_some, Option.bind_some, if_neg i10, if_neg i10]
      rcases isVar_sp x3 with ⟨⟨b, hb, rfl⟩, e3⟩ | ⟨e0, e3⟩
      · have e3' : F_DM_within (nI b) (16 : Int32) = some 1 := e3
        rw [e3, e3', Option.bind_some, Option.bind_some, if_neg i10, if_neg i10]
        rcases isVar_sp x4 with ⟨⟨c, hc, rfl⟩, e4⟩ | ⟨e0, e4⟩
        · have e4' : F_DM_within (nI c) (16 : Int32) = some 1 := e4
          rw [e4, e4', Option.bind_some, Option.bind_some, if_neg i10, if_neg i10]
          by_cases h4o : o = 4
          · rw [if_pos (show nI o = 4 by rw [h4o]; rfl), if_pos (show nI o = 4 by rw [h4o]; rfl)]
            rcases within_sp x5 12 (by decide) with ⟨⟨g, hg, rfl⟩, e5⟩ | ⟨e0, e5⟩
            · have e5 : F_DM_within (nI g) (12 : Int32) = some 1 := e5
              rw [e5, Option.bind_some, if_neg i10, if_neg (show ¬ nI g < 0 from nI_pos (by omega)), if_neg (show ¬ (11 : Int32) < nI g from nI_nlt (a := 11) (by omega) (by decide))]
              exact good ⟨o, a, b, c, ho, ha, hb, hc, rfl, rfl, rfl, rfl, fun _ => ⟨g, hg, rfl⟩⟩
            · have e5 : F_DM_within x5 (12 : Int32) = some 0 := e5
              rw [e5, Option.bind_some, if_pos rfl]
              by_cases hx : x5 < 0
              · rw [if_pos hx]
                exact bad
              · have hx2 : (11 : Int32) < x5 := by
                  obtain ⟨g, hg, rfl⟩ := nI_of hx
                  have : ¬ g < 12 := fun q => e0 ⟨g, q, rfl⟩
                  exact nI_lt (a := 11) (by omega) hg
                rw [if_neg hx, if_pos hx2]
                exact bad
          · have q4 : ¬ nI o = (4 : Int32) := fun q => h4o ((nI_eq (b := 4) (by omega) (by decide)).mp q)
            rw [if_neg q4, if_neg q4]
            exact good ⟨o, a, b, c, ho, ha, hb, hc, rfl, rfl, rfl, rfl, fun q => absurd q h4o⟩
        · have e4' : F_DM_within x4 (16 : Int32) = some 0 := e4
          rw [e4, e4', Option.bind_some, Option.bind_some, if_pos rfl, if_pos rfl]
          exact bad
      · have e3' : F_DM_within x3 (16 : Int32) = some 0 := e3
        rw [e3, e3', Option.bind_some, Option.bind_some, if_pos rfl, if_pos rfl]
        exact bad
    · have e2' : F_DM_within x2 (16 : Int32) = some 0 := e2
      rw [e2, e2', Option.bind_some, Option.bind_some, if_pos rfl, if_pos rfl]
      exact bad
  · have e1 : F_DM_within x1 (7 : Int32) = some 0 := e1
    rw [e1, Option.bind_some, if_pos rfl]
    by_cases hx : x1 < 0
    · rw [if_pos hx]
      exact bad
    · have hx2 : (6 : Int32) < x1 := by
        obtain ⟨g, hg, rfl⟩ := nI_of hx
        have : ¬ g < 7 := fun q => e0 ⟨g, q, rfl⟩
        exact nI_lt (a := 6) (by omega) hg
      rw [if_neg hx, if_pos hx2]
      exact bad
theorem placed_ok {t : Nat → Nat → Int32} {v : Nat → Int32} {f : Nat → Nat → Int32} {u : Nat → Nat → Int32} {la : Nat → Option Nat} {tv : Nat → Int32} {tf : Nat → Nat → Int32} (x1 : Int32) (h : rA t v f tv tf) : ∃ r : Int32, F_DM_placed t x1 v f u la = some r ∧ F_Mo_placed x1 tv tf = some r := by
  obtain ⟨-, -, h6, k, h7, h8, h9, h10⟩ := h
  unfold F_DM_placed F_Mo_placed F_Mo_placed_12
  rcases within_sp x1 12 (by decide) with ⟨⟨j, hj, rfl⟩, e⟩ | ⟨e0, e⟩
  · have e : F_DM_within (nI j) (12 : Int32) = some 1 := e
    rw [e, Option.bind_some, if_neg i10, if_neg (nI_in hj (by decide)), if_neg (nI_in hj (by decide)), nI_clamp (by omega), h8, if_neg (nI_pos (by omega))]
    by_cases hk : j < k
    · rw [if_pos (nI_lt hk (by omega)), h9 j hk]
      exact ⟨_, rfl, rfl⟩
    · rw [if_neg (nI_nlt (by omega) (by omega)), h10 j (by omega) hj]
      exact ⟨_, rfl, rfl⟩
  · have e : F_DM_within x1 (12 : Int32) = some 0 := e
    rw [e, Option.bind_some, if_pos rfl, h8]
    refine ⟨-1, rfl, ?_⟩
    by_cases hx : x1 < 0
    · rw [if_pos hx]
    · obtain ⟨g, hg, rfl⟩ := nI_of hx
      have : ¬ g < 12 := fun q => e0 ⟨g, q, rfl⟩
      rw [if_neg hx, if_neg (nI_nlt (by omega) (by omega))]
theorem variable_ok {t : Nat → Nat → Int32} {v : Nat → Int32} {f : Nat → Nat → Int32} {u : Nat → Nat → Int32} {la : Nat → Option Nat} {tv : Nat → Int32} {tf : Nat → Nat → Int32} (x1 : Int32) (h : rA t v f tv tf) : ∃ r : Int32, F_DM_variable t x1 v f u la = some r ∧ F_Mo_variable x1 tv tf = some r := by
  obtain ⟨-, -, h6, -⟩ := h
  unfold F_DM_variable F_Mo_variable F_Mo_variable_10
  rcases within_sp x1 16 (by decide) with ⟨⟨j, hj, rfl⟩, e⟩ | ⟨e0, e⟩
  · have e : F_DM_within (nI j) (16 : Int32) = some 1 := e
    rw [e, Option.bind_some, if_neg i10, if_neg (nI_in hj (by decide)), if_neg (nI_in hj (by decide)), nI_clamp (by omega), if_neg (nI_pos (by omega)), if_pos (show nI j ≤ (15 : Int32) from nI_le (b := 15) (by omega) (by decide)), h6 j hj]
    exact ⟨_, rfl, rfl⟩
  · have e : F_DM_within x1 (16 : Int32) = some 0 := e
    rw [e, Option.bind_some, if_pos rfl]
    refine ⟨-1, rfl, ?_⟩
    by_cases hx : x1 < 0
    · rw [if_pos hx]
    · obtain ⟨g, hg, rfl⟩ := nI_of hx
      have : ¬ g < 16 := fun q => e0 ⟨g, q, rfl⟩
      rw [if_neg hx, if_neg (show ¬ nI g ≤ (15 : Int32) from nI_ge (a := 15) (by omega) (by omega))]
