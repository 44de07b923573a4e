/-- within a cycle -/
def rK (T : Nat → Nat → Int32 → Int32 → Prop) (N : Nat) (mv : Nat → Int32) (mf : Nat → Nat → Int32) (mi : Nat → Nat) (tv : Nat → Int32) (tf : Nat → Nat → Int32) : Prop :=
  mv 8 = nI N ∧ tv 2 = nI N ∧ tv 4 = mv 10 ∧ tv 3 = mv 9 ∧ (mv 9 = 0 ∨ mv 9 = 1) ∧ rO (mf 0) (tf 0) ∧ rWd mf (tf 1) ∧ rC (N + 1) (mv 15) (mv 16) (mv 17) (tv 7) (tv 8) (tv 9) ∧
    rR T N (mv 41) (mv 42) (mv 43) (mv 44) (mv 45) (mv 46) (mf 9) (tv 19) (tv 20) (tv 23) (tv 24) (tf 21) (tf 22) ∧ rP N (mv 19) (mv 20) (tv 25) (tv 27) (mf 10) (tf 26) ∧ rG 1 N mv mi tv
theorem stepA {N : Nat} {mv : Nat → Int32} {mf : Nat → Nat → Int32} {mi : Nat → Nat} {tv : Nat → Int32} {tf : Nat → Nat → Int32} (hN : N + 1 ≤ 1100000) (h : rM N mv mf mi tv tf) (hg : mv 9 = 1) (hh : Nat → Nat) :
    ∃ (hh1 : Nat → Nat) (mv1 : Nat → Int32) (mi1 : Nat → Nat) (tv1 : Nat → Int32), F_Ma_cycle hh mv mf mi = F_Ma_cycle_46 hh1 mv1 mf mi1 ∧ F_Mo_cycle tv tf = F_Mo_cycle_15 tv1 tf ∧ rK rT N mv1 mf mi1 tv1 tf ∧ mv1 14 = 0 ∧ rU (mv1 30) (mv1 31) (tv1 17) (tv1 18) ∧ fT tv tf tv1 tf := by
  obtain ⟨a1, a2, a3, a4, a5, a6, a7, ⟨c1, ⟨cn, c2, c2'⟩, c3, c4⟩, a9, a10, a11, a12⟩ := h
  obtain ⟨D, b, l, A, Z, A0, Z0, g1, g2, g3, g4, g5, g6, g7, g8, g9, g10, g11, g12, g13, g14, g15, g16, g17, g18⟩ := a12 hg
  have key : F_Ma_cycle hh mv mf mi = (if nI N = nI (D + b) then F_Ma_cycle_37 1 hh (va_up mv 14 0) mf mi else F_Ma_cycle_37 0 hh (va_up mv 14 0) mf mi) := by
    unfold F_Ma_cycle F_Ma_cycle_29
    rw [g2, a1, g1]
    have hb : b = 0 ∨ b = 1 := by omega
    rcases hb with rfl | rfl
    · rw [if_pos (show nI 0 = 0 from rfl)]
      rfl
    · rw [if_neg (show ¬ nI 1 = 0 from by decide), nI_1]
  by_cases hD : N = D + b
  · obtain ⟨o1, q, hq, o2⟩ := a6 (32 * l + N % 32) (by omega)
    have hgp := gp_le q
    have hen := en_le N q
    refine ⟨hsw hh, rdM N q (va_up mv 14 0), rdW q mi, rdT N q tv, ?_, ?_, ?_, rfl, a9, ?_, fun _ _ => rfl⟩
    · rw [key, if_pos (by rw [← hD])]
      unfold F_Ma_cycle_37
      rw [if_neg i10, Ma_fetch_eq (mv := va_up mv 14 0) hh (by omega) a1 g7 g9 hq o2, Option.bind_some]
    · unfold F_Mo_cycle
      rw [a2, g4, if_pos (by rw [← hD]), Mo_read_eq (by omega) a2 g8 g9 hq (o1.trans o2), Option.bind_some]
    · refine ⟨a1, a2, a3, a4, a5, a6, a7, ?_, a10, a11, ?_⟩
      · refine ⟨?_, ⟨cn + 1, by omega, ?_⟩, ?_, fun _ => ⟨?_, rfl⟩⟩
        · show tv 9 + 1 = mv 17 + 1
          rw [c1]
        · show mv 17 + 1 = _
          rw [c2', nI_1]
        · intro q0
          have q0 : mv 17 + 1 = 0 := q0
          rw [c2', nI_1] at q0
          exact absurd q0 (nI_ne0 (by omega) (by omega))
        · show mv 11 = tv 6
          rw [g7, g8]
      · exact ⟨N + 2 + gp q, 0, q / 1048576, N + 2 + q / 1024 % 32, en N q, A, Z, rfl, rfl, by omega, rfl, by omega, by omega, rfl, rfl, by omega, Or.inr ⟨rfl, rfl, rfl, rfl, q, hq, rfl, rfl, rfl⟩, fun _ => rfl, fun _ => rfl, by omega, by omega, g10, by omega, by omega, Or.inr (Or.inr (by omega))⟩
    · intro k hk
      unfold rdT
      repeat rw [va_up_ne _ _ (by omega)]
  · have hne : ¬ nI N = nI (D + b) := fun q => hD ((nI_eq (by omega) (by omega)).mp q)
    refine ⟨hh, va_up mv 14 0, mi, tv, ?_, ?_, ?_, rfl, a9, fT.rf⟩
    · rw [key, if_neg hne]
      unfold F_Ma_cycle_37
      rw [if_pos rfl]
    · unfold F_Mo_cycle
      rw [a2, g4, if_neg hne]
    · refine ⟨a1, a2, a3, a4, a5, a6, a7, ⟨c1, ⟨cn, by omega, c2'⟩, c3, c4⟩, a10, a11, ?_⟩
      exact ⟨D, b, l, A, Z, A0, Z0, g1, g2, g3, g4, by omega, g6, g7, g8, g9, g10, g11, g12, g13, g14, g15, g16, g17, g18⟩
theorem row_no {N F : Nat} {mv : Nat → Int32} {mf : Nat → Nat → Int32} {mi : Nat → Nat} {tv : Nat → Int32} {tf : Nat → Nat → Int32} (hN : N ≤ 1100000) (hF : F ≤ N) (h2 : tv 2 = nI N) (hf : mv 44 = nI F) (ht : tv 23 = nI F) (h : ∀ r, r < 12 → N < F + 40 + 8 * r ∨ F + 40 + 8 * r + 2 < N) : F_Mo_row tv tf = some (-1) ∧ F_Re_row (nI N) mv mf mi = some (-1) := by
  unfold F_Mo_row F_Re_row F_Mo_row_41 F_Re_row_38
  rw [h2, hf, ht, pk_sub hF, show (40 : Int32) = nI 40 from rfl]
  by_cases h40 : N - F < 40
  · have hn : nI (N - F) - nI 40 < 0 := pk_sneg (by decide) h40
    rw [if_neg (nI_pos (by omega)), if_pos hn]
    refine ⟨rfl, ?_⟩
    split <;> rfl
  · rw [pk_sub (by omega), show (8 : Int32) = nI 8 from rfl, pk_rem (by omega) (by decide) (by decide), pk_div (by omega) (by decide) (by decide)]
    rw [if_neg (nI_pos (by omega)), if_neg (nI_pos (by omega)), if_neg (show ¬ nI (N - F - 40) < (0 : Int32) from nI_pos (by omega))]
    have h5 := h ((N - F - 40) / 8)
    constructor
    · by_cases hm : 2 < (N - F - 40) % 8
      · rw [if_pos (show (2 : Int32) < nI ((N - F - 40) % 8) from nI_lt (a := 2) hm (by omega))]
      · rw [if_neg (show ¬ (2 : Int32) < nI ((N - F - 40) % 8) from nI_nlt (b := (N - F - 40) % 8) (a := 2) (by omega) (by decide)), if_neg]
        exact nI_ge (a := 11) (by omega) (by omega)
    · split
      · rfl
      · by_cases hm : 12 ≤ (N - F - 40) / 8
        · rw [if_pos (show (12 : Int32) ≤ nI ((N - F - 40) / 8) from nI_le (a := 12) hm (by omega))]
        · rw [if_neg (show ¬ (12 : Int32) ≤ nI ((N - F - 40) / 8) from nI_ge (b := 12) (by omega) (by decide)), if_neg]
          exact nI_nlt (b := 3) (by omega) (by omega)
theorem row_is {N F r p : Nat} {mv : Nat → Int32} {mf : Nat → Nat → Int32} {mi : Nat → Nat} {tv : Nat → Int32} {tf : Nat → Nat → Int32} (hN : N ≤ 1100000) (h2 : tv 2 = nI N) (hf : mv 44 = nI F) (ht : tv 23 = nI F) (hr : mv 45 = 1) (h : N = F + 40 + 8 * r + p) (h12 : r < 12) (hp : p < 3) : F_Mo_row tv tf = some (nI r) ∧ F_Re_row (nI N) mv mf mi = some (nI r) ∧ nI N - nI F - 40 = nI (8 * r + p) := by
  unfold F_Mo_row F_Re_row F_Mo_row_41 F_Re_row_38
  have e : nI N - nI F - nI 40 = nI (8 * r + p) := by rw [pk_sub (by omega), pk_sub (by omega)]; congr 1; omega
  rw [h2, hf, ht, hr, show (40 : Int32) = nI 40 from rfl, e, show (8 : Int32) = nI 8 from rfl, pk_rem (by omega) (by decide) (by decide), pk_div (by omega) (by decide) (by decide)]
  rw [show (8 * r + p) % 8 = p by omega, show (8 * r + p) / 8 = r by omega]
  refine ⟨?_, ?_, rfl⟩
  · rw [if_neg (nI_pos (by omega)), if_neg (nI_pos (by omega)), if_neg (show ¬ (2 : Int32) < nI p from nI_nlt (a := 2) (by omega) (by decide)), if_pos (show nI r ≤ (11 : Int32) from nI_le (b := 11) (by omega) (by decide))]
  · rw [if_neg i10, if_neg (nI_pos (by omega)), if_neg (show ¬ (12 : Int32) ≤ nI r from nI_ge (b := 12) (by omega) (by decide)), if_pos (show nI p < (3 : Int32) from nI_lt (b := 3) (by omega) (by decide))]
/-- the row under the brushes in cycle N: R, its number, L its time -/
def rRow (N : Nat) (R L fe re : Int32) : Prop := (R = -1 ∧ (re = 0 ∨ ∃ F, F ≤ N ∧ fe = nI F ∧ ∀ r, r < 12 → N < F + 40 + 8 * r ∨ F + 40 + 8 * r + 2 < N)) ∨ (re = 1 ∧ ∃ F r p, fe = nI F ∧ r < 12 ∧ p < 3 ∧ N = F + 40 + 8 * r + p ∧ R = nI r ∧ L = nI (8 * r + p))
theorem row_sp {T : Nat → Nat → Int32 → Int32 → Prop} {N : Nat} {mv : Nat → Int32} {mf : Nat → Nat → Int32} {mi : Nat → Nat} {tv : Nat → Int32} {tf : Nat → Nat → Int32} (hN : N ≤ 1100000) (h2 : tv 2 = nI N) (h : rR T N (mv 41) (mv 42) (mv 43) (mv 44) (mv 45) (mv 46) (mf 9) (tv 19) (tv 20) (tv 23) (tv 24) (tf 21) (tf 22)) : ∃ R, F_Mo_row tv tf = some R ∧ F_Re_row (nI N) mv mf mi = some R ∧ rRow N R (tv 2 - tv 23 - 40) (mv 44) (mv 45) := by
  obtain ⟨c, n, e1, e2, e3, e4, e5, e6, e7, e8, e9, e10⟩ := h
  rcases e10 with ⟨f1, f2⟩ | ⟨f1, F, n0, f2, f3, f4, f5, f6, f7, f8⟩
  · refine ⟨-1, ?_, ?_, Or.inl ⟨rfl, Or.inl f1⟩⟩
    · unfold F_Mo_row F_Mo_row_41
      rw [f2, if_pos (by decide)]
    · unfold F_Re_row F_Re_row_38
      rw [f1, if_pos rfl]
  · by_cases hx : ∃ r p, r < 12 ∧ p < 3 ∧ N = F + 40 + 8 * r + p
    · obtain ⟨r, p, h12, hp, hh⟩ := hx
      obtain ⟨q1, q2, q3⟩ := row_is (mf := mf) (mi := mi) (tf := tf) hN h2 f3 f4 f1 hh h12 hp
      exact ⟨nI r, q1, q2, Or.inr ⟨f1, F, r, p, f3, h12, hp, hh, rfl, by rw [h2, f4, q3]⟩⟩
    · have hno : ∀ r, r < 12 → N < F + 40 + 8 * r ∨ F + 40 + 8 * r + 2 < N := by
        intro r hr
        by_cases h1 : N < F + 40 + 8 * r
        · exact Or.inl h1
        · by_cases h3 : F + 40 + 8 * r + 2 < N
          · exact Or.inr h3
          · exact absurd ⟨r, N - (F + 40 + 8 * r), hr, by omega, by omega⟩ hx
      obtain ⟨q1, q2⟩ := row_no (mf := mf) (mi := mi) (tf := tf) hN f2 h2 f3 f4 hno
      exact ⟨-1, q1, q2, Or.inl ⟨rfl, Or.inr ⟨F, f2, f3, hno⟩⟩⟩
theorem stepB {N : Nat} {mv : Nat → Int32} {mf : Nat → Nat → Int32} {mi : Nat → Nat} {tv : Nat → Int32} {tf : Nat → Nat → Int32} (hN : N ≤ 1100000) (h : rK rT N mv mf mi tv tf) : ∃ R L s : Int32, F_Mo_cycle_15 tv tf = F_Mo_cycle_57 R L s tv tf ∧ (s = 0 ∨ s = 1) ∧ rK rT' N mv mf mi (va_up tv 24 s) tf ∧ rRow N R L (mv 44) (mv 45) := by
  obtain ⟨a1, a2, a3, a4, a5, a6, a7, a8, a10, a11, a12⟩ := h
  obtain ⟨R, r1, r2, r3⟩ := row_sp (mi := mi) hN a2 a10
  obtain ⟨c, n, e1, e2, e3, e4, e5, e6, e7, e8, e9, e10⟩ := a10
  unfold F_Mo_cycle_15 F_Mo_cycle_56 F_Mo_cycle_52
  rw [r1, Option.bind_some]
  have mk : ∀ s : Int32, (s = 0 ∨ s = 1) → (∀ F, mv 45 = 1 → mv 44 = nI F → F ≤ N → rT N F (mv 46) (tv 24) → rT' N F (mv 46) s) → rK rT' N mv mf mi (va_up tv 24 s) tf := by
    intro s hs hT
    refine ⟨a1, a2, a3, a4, a5, a6, a7, a8, ⟨c, n, e1, e2, e3, e4, e5, e6, e7, e8, hs, ?_⟩, a11, a12⟩
    rcases e10 with e10 | ⟨f1, F, n0, f2, f3, f4, f5, f6, f7, f8⟩
    · exact Or.inl e10
    · exact Or.inr ⟨f1, F, n0, f2, f3, f4, f5, f6, f7, hT F f1 f3 f2 f8⟩
  rcases r3 with ⟨rfl, r4⟩ | ⟨r4, F, r, p, r5, r6, r7, r8, rfl, r9⟩
  · refine ⟨-1, tv 2 - tv 23 - 40, tv 24, ?_, e9, mk _ e9 ?_, Or.inl ⟨rfl, r4⟩⟩
    · rcases e9 with e9 | e9
      · rw [e9, if_pos rfl]
      · rw [e9, if_neg i10, if_pos (by decide)]
    · intro F f1 f3 f2 hT
      rcases r4 with r4 | ⟨F', _, r4, r5⟩
      · rw [r4] at f1; exact absurd f1 (by decide)
      · have : F' = F := (nI_eq (by omega) (by omega)).mp (r4.symm.trans f3)
        subst this
        intro r hr
        have := r5 r hr
        exact ⟨fun q => (hT r hr).1 (by omega), fun q1 q2 => by omega⟩
  · refine ⟨nI r, tv 2 - tv 23 - 40, if p = 0 then 0 else tv 24, ?_, ?_, mk _ ?_ ?_, Or.inr ⟨r4, F, r, p, r5, r6, r7, r8, rfl, r9⟩⟩
    · rw [r9, if_neg (show ¬ nI r < 0 from nI_pos (by omega)), show (8 : Int32) = nI 8 from rfl, pk_rem (by omega) (by decide) (by decide), show (8 * r + p) % 8 = p by omega]
      by_cases hp : p = 0
      · rw [if_pos hp, if_pos (show nI p = 0 by rw [hp]; rfl)]
        split <;> rfl
      · rw [if_neg hp, if_neg (show ¬ nI p = 0 from nI_ne0 (by omega) (by omega))]
        rcases e9 with e9 | e9
        · rw [e9, if_pos rfl]
        · rw [e9, if_neg i10]
    · split
      · exact Or.inl rfl
      · exact e9
    · split
      · exact Or.inl rfl
      · exact e9
    · intro F' f1 f3 f2 hT
      have : F' = F := (nI_eq (by omega) (by omega)).mp (f3.symm.trans r5)
      subst this
      intro r' hr'
      refine ⟨fun q => (hT r' hr').1 (by omega), fun q1 q2 => ?_⟩
      by_cases hp : p = 0
      · rw [if_pos hp, (hT r' hr').1 (by omega)]
        decide
      · rw [if_neg hp]
        exact (hT r' hr').2 (by omega) q2
