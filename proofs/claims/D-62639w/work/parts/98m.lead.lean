theorem asm_end {t : Nat → Nat → Int32} {kd nx : Nat → Nat} {go : Nat → Int32} {n Lz fr : Nat} {o : Nat → Nat} {v tv : Nat → Int32} {f u tf : Nat → Nat → Int32} {la : Nat → Option Nat} (N : Nat) (hn0 : 0 < n) (hL : tv 34 = nI Lz) (hL2 : Lz ≤ 37) (hLz : Lz = off o n + if o (n - 1) = 6 then 0 else 1) (hJ : J0 (off o n) fr v f u tf) (hS : S0 kd nx go (off o n) u la tf) (hkd : ∀ j, kd j = kdT tf j) (hA : AIn o n f tf la) (hfin : o (n - 1) ≠ 6 → tf 35 (off o n) = nI 0 ∧ tf 36 (off o n) = nI 1 ∧ tf 37 (off o n) = -1) :
    aFail v f tf tv (F_As_assemble_167 t v f u la) (F_Mo_place_67 (N + 2) (nI fr) (nI (off o n)) tv tf) ∨
    ∃ fr1 v1 f1 u1 la1 tf1, F_As_assemble_167 t v f u la = F_As_assemble_185 t v1 f1 u1 la1 ∧ F_Mo_place_67 (N + 2) (nI fr) (nI (off o n)) tv tf = some (1, tv, tf1) ∧ J0 Lz fr1 v1 f1 u1 tf1 ∧ S0 kd nx go Lz u1 la1 tf1 ∧ la1 0 = none ∧ (∀ k, k < n → f1 5 k = tf1 39 (off o k)) ∧ aKp v f tf v1 f1 tf1 := by
  have h9 : ¬ v 9 = 0 := by rw [hJ.1]; decide
  unfold F_As_assemble_167
  rw [if_neg h9]
  have hA2 := hA.2 hn0
  by_cases h6 : o (n - 1) = 6
  · rw [if_pos h6, Nat.add_zero] at hLz
    have hla := hA2.mp h6
    refine Or.inr ⟨fr, v, f, u, la, tf, dm_ocn hla, ?_, by rw [hLz]; exact hJ, by rw [hLz]; exact hS, hla, hA.1, aKp.rf⟩
    rw [F_Mo_place_67, hL, if_pos (nI_le (by omega) (by omega))]
  · rw [if_neg h6] at hLz
    obtain ⟨j, hj⟩ : ∃ j, la 0 = some j := by
      cases hl : la 0 with
      | none => exact absurd (hA2.mpr hl) h6
      | some j => exact ⟨j, rfl⟩
    obtain ⟨g1, g2, g3⟩ := hfin h6
    have hk1 : kd (off o n) = 1 := by
      rw [hkd]
      unfold kdT
      rw [if_pos (show tf 36 (off o n) = 1 from g2)]
    rw [dm_ocs hj]
    rcases stop_ok (t := t) (tv := tv) (N + 1) (by omega) hJ hS g1 g2 g3 hL (by omega) (by omega) hk1 with ⟨p1, p2⟩ | ⟨fr1, v1, f1, u1, la1, tf1, p1, p2, p3, p4, p5, p6⟩
    · rw [p1, p2, Option.bind_some]
      obtain ⟨j1, j2, j3, j4, ⟨m, j5, j6, j7⟩, -⟩ := hJ
      exact Or.inl ⟨va_up v 9 0, f, u, la, tf, end_5 rfl, ⟨m, j5, j7⟩, ⟨fun _ _ => rfl, fun _ _ _ _ => rfl, fun k k1 k2 k3 k4 => va_up_ne _ _ k3⟩, rfl⟩
    · rw [p1, p2, Option.bind_some]
      refine Or.inr ⟨fr1, v1, f1, u1, la1, tf1, rfl, ?_, by rw [hLz]; exact p3, by rw [hLz]; exact p4, p6, fun k hk => ?_, ⟨p5.1, fun k k1 k2 _ => p5.2.1 k k1 k2, p5.2.2.1⟩⟩
      · rw [F_Mo_place_67, hL, if_pos (nI_le (by omega) (by omega))]
      · rw [p5.2.1 5 (by decide) (by decide), hA.1 k hk, (p5.2.2.2 (off o k) (off_lt hk)).1]
theorem lead_not {t : Nat → Nat → Int32} {v : Nat → Int32} {f : Nat → Nat → Int32} {u : Nat → Nat → Int32} {la : Nat → Option Nat} (q : Nat) (x : Int32) (h9 : v 9 = 0) : F_As_assemble_187 t (q + 1) x v f u la = some (-1, v, f, u, la) := by
  rw [F_As_assemble_187]
  unfold F_As_assemble_277
  by_cases h2 : v 2 ≤ x
  · rw [if_pos h2, if_pos h9]
  · rw [if_neg h2, if_pos h9, if_pos h9]
theorem neg1_lt {n : Nat} (h : n < 2 ^ 31) : (-1 : Int32) < nI n := by
  rw [Int32.lt_iff_toInt_lt, nI_toInt h, show (-1 : Int32).toInt = -1 from by decide]
  omega
/-- an order as it is written -/
def fin0 (kd nx : Nat → Nat) (u tf : Nat → Nat → Int32) (j : Nat) : Prop := ∃ s, s < 64 ∧ tf 39 j = nI s ∧ u j 0 = nI (s / 32) ∧ u j 1 = nI (s % 32) ∧ (kd j = 0 → u j 2 = ldx (bse tf j) (tf 39 j) (tf 39 (nx j))) ∧ (kd j = 1 → u j 2 = 1015824)
def fin2 (kd : Nat → Nat) (g : Nat → Nat) (u tf : Nat → Nat → Int32) (j : Nat) : Prop := (kd j = 2 → u j 2 = bse tf j ∧ u j 4 = nI (g j)) ∧ (kd j ≠ 2 → u j 4 = -1)
theorem lead_lp {t : Nat → Nat → Int32} {kd nx g : Nat → Nat} {n Lz m : Nat} {o : Nat → Nat} {v : Nat → Int32} {f tf : Nat → Nat → Int32} {la : Nat → Option Nat} (hn : n ≤ 12) (h21 : v 21 = nI n) (h2 : v 2 = nI Lz) (h20 : v 20 = nI m) (hm : m ≤ 37) (hLm : Lz ≤ m) (h9 : v 9 = 1) (h5 : ∀ k, k < n → f 5 k = tf 39 (off o k)) (hof : ∀ k, k < n → off o k < Lz) (hg : ∀ j, j < Lz → kd j = 2 → g j < 12) (hb : ∀ j, j < Lz → ∃ w, w < 32768 ∧ bse tf j = nI w) (h39 : ∀ j, j < Lz → ∃ s, s < 64 ∧ tf 39 j = nI s) :
    ∀ (d j q : Nat) (u : Nat → Nat → Int32), j + d = Lz → d < q → (∀ i, i < Lz → fin0 kd nx u tf i) → (∀ i, i < j → kd i = 2 → u i 2 = ldx (bse tf i) (tf 39 i) (tf 39 (off o (g i)))) → (∀ i, j ≤ i → i < Lz → fin2 kd g u tf i) →
      ((∃ i, j ≤ i ∧ i < Lz ∧ kd i = 2 ∧ n ≤ g i) ∧ ∃ u1, F_As_assemble_187 t q (nI j) v f u la = some (-1, va_up v 9 0, f, u1, la)) ∨
      ((∀ i, j ≤ i → i < Lz → kd i = 2 → g i < n) ∧ ∃ u1, F_As_assemble_187 t q (nI j) v f u la = some (nI Lz, v, f, u1, la) ∧ (∀ i, i < Lz → fin0 kd nx u1 tf i) ∧ ∀ i, i < Lz → kd i = 2 → u1 i 2 = ldx (bse tf i) (tf 39 i) (tf 39 (off o (g i)))) := by
  have h9' : ¬ v 9 = 0 := by rw [h9]; decide
  intro d
  induction d with
  | zero =>
    intro j q u hj hq hf hl hr
    have hj : j = Lz := hj
    subst hj
    obtain ⟨q, rfl⟩ : ∃ p, q = p + 1 := ⟨q - 1, by omega⟩
    refine Or.inr ⟨fun i h1 h2 => absurd h1 (by omega), u, ?_, hf, hl⟩
    rw [F_As_assemble_187, if_pos (show v 2 ≤ nI j by rw [h2]; exact nI_le (Nat.le_refl _) (by omega))]
    unfold F_As_assemble_277
    rw [if_neg h9', h2]
  | succ d ih =>
    intro j q u hj hq hf hl hr
    obtain ⟨q, rfl⟩ : ∃ p, q = p + 1 := ⟨q - 1, by omega⟩
    have hmi : ¬ (v 20).toNatClampNeg ≤ j := by rw [h20, nI_clamp (by omega)]; omega
    rw [F_As_assemble_187, if_neg (show ¬ v 2 ≤ nI j by rw [h2]; exact nI_ge (by omega) (by omega)), if_neg h9', get_p hm (show j < m by omega) h20, Option.bind_some, if_neg hmi, if_neg hmi]
    unfold F_AL_size_s
    rw [Option.bind_some]
    obtain ⟨r1, r2⟩ := hr j (Nat.le_refl _) (by omega)
    by_cases hk : kd j = 2
    · obtain ⟨r3, r4⟩ := r1 hk
      have hgj := hg j (by omega) hk
      by_cases hgn : g j < n
      · have hrg : ¬ (u j 4 < 0 ∨ 12 ≤ (u j 4).toNatClampNeg) := by rw [r4]; exact nI_in hgj (by decide)
        have hcl : (u j 4).toNatClampNeg = g j := by rw [r4, nI_clamp (by omega)]
        obtain ⟨s, s1, s2⟩ := h39 (off o (g j)) (hof _ hgn)
        obtain ⟨U, b1, b2, b3, b4, b5, b6⟩ := leadf_ok (t := t) (v := v) (f := f) (u := u) (la := la) (nI (s / 32)) (nI (s % 32)) hm (show j < m by omega) h20
        rw [if_pos (show u j 4 < v 21 by rw [r4, h21]; exact nI_lt hgn (by omega)), if_neg hmi, if_neg (show ¬ u j 4 < 0 by rw [r4]; exact nI_pos (by omega)), if_neg hmi, if_neg hrg, if_neg hmi, if_neg hrg, if_neg hmi, hcl, h5 _ hgn, s2, show nI s / (32 : Int32) = nI (s / 32) from pk_div (d := 32) (by omega) (by decide) (by decide)]
        rw [show nI s - nI (s / 32) * (32 : Int32) = nI (s % 32) from by
          have := r32 (a := s) (by omega)
          rw [show nI s / (32 : Int32) = nI (s / 32) from pk_div (d := 32) (by omega) (by decide) (by decide)] at this
          exact this, b1, Option.bind_some]
        unfold F_As_assemble_271
        rw [nI_1]
        obtain ⟨sj, e1, e2, e3, e4, e5, e6⟩ := hf j (by omega)
        have z1 : ∀ i, i < Lz → fin0 kd nx U tf i := fun i hi => by
          by_cases hij : i = j
          · subst hij
            exact ⟨sj, e1, e2, b2.trans e3, b3.trans e4, fun q => by omega, fun q => by omega⟩
          · unfold fin0
            rw [b6 i hij]
            exact hf i hi
        have z2 : ∀ i, i < j + 1 → kd i = 2 → U i 2 = ldx (bse tf i) (tf 39 i) (tf 39 (off o (g i))) := fun i hi hki => by
          by_cases hij : i = j
          · subst hij
            obtain ⟨w, w1, w2⟩ := hb i (by omega)
            rw [b4, r3, e4, w2, e2, s2]
            exact lead_eq w1 s1 e1
          · rw [b6 i hij]
            exact hl i (by omega) hki
        have z3 : ∀ i, j + 1 ≤ i → i < Lz → fin2 kd g U tf i := fun i hi1 hi2 => by
          unfold fin2
          rw [b6 i (by omega)]
          exact hr i (by omega) hi2
        rcases ih (j + 1) q U (by omega) (by omega) z1 z2 z3 with ⟨⟨i, c1, c2, c3, c4⟩, c5⟩ | ⟨c1, c2⟩
        · exact Or.inl ⟨⟨i, by omega, c2, c3, c4⟩, c5⟩
        · refine Or.inr ⟨fun i h1 h2 h3 => ?_, c2⟩
          by_cases hij : i = j
          · subst hij; exact hgn
          · exact c1 i (by omega) h2 h3
      · rw [if_neg (show ¬ u j 4 < v 21 by rw [r4, h21]; exact nI_nlt (by omega) (by omega))]
        unfold F_As_assemble_271
        obtain ⟨q, rfl⟩ : ∃ p, q = p + 1 := ⟨q - 1, by omega⟩
        exact Or.inl ⟨⟨j, Nat.le_refl _, by omega, hk, by omega⟩, u, lead_not q _ rfl⟩
    · have r4 := r2 hk
      rw [if_pos (show u j 4 < v 21 by rw [r4, h21]; exact neg1_lt (by omega)), if_neg hmi, if_pos (show u j 4 < 0 by rw [r4]; decide)]
      unfold F_As_assemble_271
      rw [nI_1]
      have z2 : ∀ i, i < j + 1 → kd i = 2 → u i 2 = ldx (bse tf i) (tf 39 i) (tf 39 (off o (g i))) := fun i hi hki => by
        by_cases hij : i = j
        · subst hij; exact absurd hki hk
        · exact hl i (by omega) hki
      rcases ih (j + 1) q u (by omega) (by omega) hf z2 (fun i hi1 hi2 => hr i (by omega) hi2) with ⟨⟨i, c1, c2, c3, c4⟩, c5⟩ | ⟨c1, c2⟩
      · exact Or.inl ⟨⟨i, by omega, c2, c3, c4⟩, c5⟩
      · refine Or.inr ⟨fun i h1 h2 h3 => ?_, c2⟩
        by_cases hij : i = j
        · subst hij; exact absurd h3 hk
        · exact c1 i (by omega) h2 h3
