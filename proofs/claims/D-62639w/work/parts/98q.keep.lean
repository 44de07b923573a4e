theorem wr_lp {t : Nat → Nat → Int32} {n Lz m : Nat} {o g : Nat → Nat} {v tv : Nat → Int32} {f u tf : Nat → Nat → Int32} {la : Nat → Option Nat} (h : Lst n Lz o t tf) (ho : ∀ k, k < n → o k < 7) (hn : n ≤ 12) (hL : tv 34 = nI Lz) (hL2 : Lz ≤ 37) (h2 : v 2 = nI Lz) (h20 : v 20 = nI m) (hm : m ≤ 37) (hLm : Lz ≤ m) (hf : ∀ i, i < Lz → fin0 (kdT tf) (nxT tf) u tf i) (hG : ∀ i, i < Lz → kdT tf i = 2 → u i 2 = ldx (bse tf i) (tf 39 i) (tf 39 (off o (g i)))) (hnx : ∀ i, i < Lz → kdT tf i = 0 → nxT tf i < Lz) (hg : ∀ k, k < n → o k = 4 → g (off o k + 2) < n ∧ tf 33 k = nI (g (off o k + 2))) (hb : ∀ j, j < Lz → ∃ w, w < 32768 ∧ bse tf j = nI w) (hgL : ∀ i, i < Lz → kdT tf i = 2 → off o (g i) < Lz) :
    ∀ (d i q Q : Nat) (od : Nat → Nat → Int32) (X : Nat → Int32), i + d = Lz → d < q → d < Q → rO (od 0) X → ∃ od1 X1, F_As_keep_21 t q (nI i) v f u la od = F_As_keep_85 t 100 0 v f u la od1 ∧ F_Mo_assemble_121 Q (nI i) tv (va_up tf 0 X) = F_Mo_assemble_150 100 0 (va_up tv 44 (tv 28)) (va_up tf 0 X1) ∧ rO (od1 0) X1 := by
  intro d
  induction d with
  | zero =>
    intro i q Q od X hi hq hQ hO
    have hi : i = Lz := hi
    subst hi
    obtain ⟨q, rfl⟩ : ∃ p, q = p + 1 := ⟨q - 1, by omega⟩
    obtain ⟨Q, rfl⟩ : ∃ p, Q = p + 1 := ⟨Q - 1, by omega⟩
    refine ⟨od, X, ?_, ?_, hO⟩
    · rw [F_As_keep_21, h2, if_pos (nI_le (Nat.le_refl _) (by omega))]
    · rw [F_Mo_assemble_121, hL, if_pos (nI_le (Nat.le_refl _) (by omega))]
  | succ d ih =>
    intro i q Q od X hi hq hQ hO
    obtain ⟨q, rfl⟩ : ∃ p, q = p + 1 := ⟨q - 1, by omega⟩
    obtain ⟨Q, rfl⟩ : ∃ p, Q = p + 1 := ⟨Q - 1, by omega⟩
    have hiL : i < Lz := by omega
    obtain ⟨s, e1, e2, e3, e4, e5, e6⟩ := hf i hiL
    obtain ⟨W, w1, w2, w3, w4⟩ := write_ok (i := i) (s := s) (g := g) (t := t) (tf := va_up tf 0 X) (tv := tv) (n := n) (o := o) h ho hn hL hL2 hiL e1 e2 (hnx i hiL) hg
    have w1 : F_Mo_write (nI i) tv (va_up tf 0 X) = some (tv, va_up (va_up tf 0 X) 0 (upd X s W)) := w1
    rw [up_up] at w1
    obtain ⟨b, b1, b2⟩ := hb i hiL
    have hW : u i 2 = W ∧ ∃ w, w < 2097152 ∧ W = nI w := by
      have key : ∀ j, j < Lz → ∃ w, w < 2097152 ∧ ldx (bse tf i) (tf 39 i) (tf 39 j) = nI w := fun j hj => by
        obtain ⟨sj, c1, c2, -⟩ := hf j hj
        rw [b2, e2, c2]
        exact ldx_n b1 c1
      rcases (show kdT tf i = 0 ∨ kdT tf i = 1 ∨ kdT tf i = 2 from by
        unfold kdT
        split
        · exact Or.inr (Or.inl rfl)
        · split
          · exact Or.inr (Or.inr rfl)
          · exact Or.inl rfl) with k0 | k0 | k0
      · have hw : W = ldx (bse tf i) (tf 39 i) (tf 39 (nxT tf i)) := w2 k0
        exact ⟨(e5 k0).trans hw.symm, by rw [hw]; exact key _ (hnx i hiL k0)⟩
      · have hw : W = 1015824 := w3 k0
        exact ⟨(e6 k0).trans hw.symm, 1015824, by decide, hw⟩
      · have hw : W = ldx (bse tf i) (tf 39 i) (tf 39 (off o (g i))) := w4 k0
        exact ⟨(hG i hiL k0).trans hw.symm, by rw [hw]; exact key _ (hgL i hiL k0)⟩
    obtain ⟨hW1, w, hw1, hw2⟩ := hW
    have hmi : ¬ (v 20).toNatClampNeg ≤ i := by rw [h20, nI_clamp (by omega)]; omega
    obtain ⟨od1, X1, a1, a2, a3⟩ := ih (i + 1) q Q (va_up od 0 (upd (od 0) s W)) (upd X s W) (by omega) (by omega) (by omega) (rO_up hO hw2 hw1)
    refine ⟨od1, X1, ?_, ?_, a3⟩
    · rw [F_As_keep_21, if_neg (show ¬ v 2 ≤ nI i by rw [h2]; exact nI_ge hiL (by omega)), get_p hm (show i < m by omega) h20, Option.bind_some, if_neg hmi, if_neg hmi, Option.bind_some, if_neg hmi, if_neg hmi, Option.bind_some, if_neg hmi, if_neg hmi, e3, e4, ord_ix (by omega) (by omega), show 32 * (s / 32) + s % 32 = s by omega, if_neg (nI_in e1 (by decide)), nI_clamp (n := s) (by omega), hW1, nI_1]
      exact a1
    · rw [F_Mo_assemble_121, if_neg (show ¬ tv 34 ≤ nI i by rw [hL]; exact nI_ge hiL (by omega)), w1, Option.bind_some]
      dsimp only
      rw [nI_1]
      exact a2
theorem cp_85 {t : Nat → Nat → Int32} {v : Nat → Int32} {u : Nat → Nat → Int32} {la : Nat → Option Nat} {od : Nat → Nat → Int32} : ∀ (d l q : Nat) (f : Nat → Nat → Int32), l + d = 16 → d < q → (∀ j, j < l → f 6 j = f 4 j) → ∃ f1, F_As_keep_85 t q (nI l) v f u la od = F_As_keep_111 t 100 0 v f1 u la od ∧ (∀ j, j < 16 → f1 6 j = f 4 j) ∧ ∀ k, k ≠ 6 → f1 k = f k := by
  intro d
  induction d with
  | zero =>
    intro l q f hl hq hv
    have hl : l = 16 := hl
    subst hl
    obtain ⟨q, rfl⟩ : ∃ p, q = p + 1 := ⟨q - 1, by omega⟩
    refine ⟨f, ?_, hv, fun _ _ => rfl⟩
    rw [F_As_keep_85, if_pos (show (16 : Int32) ≤ nI 16 from nI_le (Nat.le_refl _) (by decide))]
  | succ d ih =>
    intro l q f hl hq hv
    obtain ⟨q, rfl⟩ : ∃ p, q = p + 1 := ⟨q - 1, by omega⟩
    obtain ⟨f1, a1, a2, a3⟩ := ih (l + 1) q (va_up f 6 (upd (f 6) l (f 4 l))) (by omega) (by omega) (fun j hj => by
      show upd (f 6) l (f 4 l) j = f 4 j
      by_cases hjl : j = l
      · rw [hjl, pk_us]
      · rw [pk_un hjl]
        exact hv j (by omega))
    refine ⟨f1, ?_, a2, fun k hk => (a3 k hk).trans (va_up_ne _ _ hk)⟩
    rw [F_As_keep_85, if_neg (show ¬ (16 : Int32) ≤ nI l from nI_ge (b := 16) (by omega) (by decide)), if_neg (nI_in (show l < 16 by omega) (by decide)), if_neg (nI_in (show l < 16 by omega) (by decide)), nI_clamp (by omega), nI_1]
    exact a1
theorem cp_111 {t : Nat → Nat → Int32} {n : Nat} {v : Nat → Int32} {u : Nat → Nat → Int32} {la : Nat → Option Nat} {od : Nat → Nat → Int32} (hn : n ≤ 12) (h21 : v 21 = nI n) : ∀ (d l q : Nat) (f : Nat → Nat → Int32), l + d = 12 → d < q → (∀ j, j < l → f 7 j = if j < n then f 5 j else -1) → ∃ f1, F_As_keep_111 t q (nI l) v f u la od = some (v, f1, u, la, od) ∧ (∀ j, j < 12 → f1 7 j = if j < n then f 5 j else -1) ∧ ∀ k, k ≠ 7 → f1 k = f k := by
  intro d
  induction d with
  | zero =>
    intro l q f hl hq hv
    have hl : l = 12 := hl
    subst hl
    obtain ⟨q, rfl⟩ : ∃ p, q = p + 1 := ⟨q - 1, by omega⟩
    refine ⟨f, ?_, hv, fun _ _ => rfl⟩
    rw [F_As_keep_111, if_pos (show (12 : Int32) ≤ nI 12 from nI_le (Nat.le_refl _) (by decide))]
  | succ d ih =>
    intro l q f hl hq hv
    obtain ⟨q, rfl⟩ : ∃ p, q = p + 1 := ⟨q - 1, by omega⟩
    obtain ⟨f1, a1, a2, a3⟩ := ih (l + 1) q (va_up f 7 (upd (f 7) l (if l < n then f 5 l else -1))) (by omega) (by omega) (fun j hj => by
      show upd (f 7) l (if l < n then f 5 l else -1) j = if j < n then f 5 j else -1
      by_cases hjl : j = l
      · rw [hjl, pk_us]
      · rw [pk_un hjl]
        exact hv j (by omega))
    refine ⟨f1, ?_, a2, fun k hk => (a3 k hk).trans (va_up_ne _ _ hk)⟩
    rw [F_As_keep_111, if_neg (show ¬ (12 : Int32) ≤ nI l from nI_ge (b := 12) (by omega) (by decide))]
    unfold F_AL_size_s F_As_keep_143
    rw [Option.bind_some, h21]
    by_cases hln : l < n
    · rw [if_pos hln] at a1
      rw [if_neg (nI_ge hln (by omega)), if_neg (nI_in (show l < 12 by omega) (by decide)), if_neg (nI_in (show l < 12 by omega) (by decide)), nI_clamp (by omega), nI_1]
      exact a1
    · rw [if_neg hln] at a1
      rw [if_pos (nI_le (by omega) (by omega)), if_neg (nI_in (show l < 12 by omega) (by decide)), nI_clamp (by omega), nI_1]
      exact a1
theorem cp_182 {v : Nat → Int32} : ∀ (d l q : Nat) (f : Nat → Nat → Int32), l + d = 16 → d < q → (∀ j, j < l → f 46 j = f 43 j) → ∃ f1, F_Mo_assemble_182 q (nI l) v f = some (v 34, v, f1) ∧ (∀ j, j < 16 → f1 46 j = f 43 j) ∧ ∀ k, k ≠ 46 → f1 k = f k := by
  intro d
  induction d with
  | zero =>
    intro l q f hl hq hv
    have hl : l = 16 := hl
    subst hl
    obtain ⟨q, rfl⟩ : ∃ p, q = p + 1 := ⟨q - 1, by omega⟩
    refine ⟨f, ?_, hv, fun _ _ => rfl⟩
    rw [F_Mo_assemble_182, if_pos (show (16 : Int32) ≤ nI 16 from nI_le (Nat.le_refl _) (by decide))]
  | succ d ih =>
    intro l q f hl hq hv
    obtain ⟨q, rfl⟩ : ∃ p, q = p + 1 := ⟨q - 1, by omega⟩
    obtain ⟨f1, a1, a2, a3⟩ := ih (l + 1) q (va_up f 46 (upd (f 46) l (f 43 l))) (by omega) (by omega) (fun j hj => by
      show upd (f 46) l (f 43 l) j = f 43 j
      by_cases hjl : j = l
      · rw [hjl, pk_us]
      · rw [pk_un hjl]
        exact hv j (by omega))
    refine ⟨f1, ?_, a2, fun k hk => (a3 k hk).trans (va_up_ne _ _ hk)⟩
    rw [F_Mo_assemble_182, if_neg (show ¬ (16 : Int32) ≤ nI l from nI_ge (b := 16) (by omega) (by decide)), if_neg (nI_in (show l < 16 by omega) (by decide)), if_neg (nI_in (show l < 16 by omega) (by decide)), nI_clamp (by omega), nI_1]
    exact a1
theorem cp_150 {t : Nat → Nat → Int32} {n Lz : Nat} {o : Nat → Nat} {v : Nat → Int32} (ho : ∀ k, k < n → o k < 7) (hn : n ≤ 12) (h28 : v 28 = nI n) : ∀ (d l q : Nat) (f : Nat → Nat → Int32), l + d = n → d < q → Lst n Lz o t f → (∀ j, j < l → f 45 j = f 39 (off o j)) → ∃ f1, F_Mo_assemble_150 q (nI l) v f = F_Mo_assemble_182 100 0 v f1 ∧ (∀ j, j < n → f1 45 j = f 39 (off o j)) ∧ ∀ k, k ≠ 45 → f1 k = f k := by
  intro d
  induction d with
  | zero =>
    intro l q f hl hq h hv
    have hl : l = n := hl
    subst hl
    obtain ⟨q, rfl⟩ : ∃ p, q = p + 1 := ⟨q - 1, by omega⟩
    refine ⟨f, ?_, hv, fun _ _ => rfl⟩
    rw [F_Mo_assemble_150, h28, if_pos (nI_le (Nat.le_refl _) (by omega))]
  | succ d ih =>
    intro l q f hl hq h hv
    obtain ⟨q, rfl⟩ : ∃ p, q = p + 1 := ⟨q - 1, by omega⟩
    have hol := off_le o l
    obtain ⟨f1, a1, a2, a3⟩ := ih (l + 1) q (va_up f 45 (upd (f 45) l (f 39 (off o l)))) (by omega) (by omega) h (fun j hj => by
      show upd (f 45) l (f 39 (off o l)) j = f 39 (off o j)
      by_cases hjl : j = l
      · rw [hjl, pk_us]
      · rw [pk_un hjl]
        exact hv j (by omega))
    refine ⟨f1, ?_, a2, fun k hk => (a3 k hk).trans (va_up_ne _ _ hk)⟩
    rw [F_Mo_assemble_150, if_neg (show ¬ v 28 ≤ nI l by rw [h28]; exact nI_ge (by omega) (by omega)), first_ok h ho hn (show l < n by omega), Option.bind_some, if_neg (nI_in (show off o l < 64 by omega) (by decide)), if_neg (nI_in (show l < 12 by omega) (by decide)), nI_clamp (n := off o l) (by omega), nI_clamp (n := l) (by omega), nI_1]
    exact a1
/-- the model's question whether every jump has where to go -/
theorem can_0 {n : Nat} {v : Nat → Int32} {f : Nat → Nat → Int32} (hn : n ≤ 12) (h28 : v 28 = nI n) : ∀ (d k q : Nat), k + d = n → d < q → F_Mo_assemble_22 q 0 (nI k) v f = some (-1, v, f) := by
  intro d
  induction d with
  | zero =>
    intro k q hk hq
    have hk : k = n := hk
    subst hk
    obtain ⟨q, rfl⟩ : ∃ p, q = p + 1 := ⟨q - 1, by omega⟩
    rw [F_Mo_assemble_22, h28, if_pos (nI_le (Nat.le_refl _) (by omega)), if_pos rfl]
  | succ d ih =>
    intro k q hk hq
    obtain ⟨q, rfl⟩ : ∃ p, q = p + 1 := ⟨q - 1, by omega⟩
    rw [F_Mo_assemble_22, h28, if_neg (nI_ge (by omega) (by omega)), if_pos rfl]
    unfold F_Mo_assemble_61 F_Mo_assemble_62
    rw [nI_1]
    exact ih (k + 1) q (by omega) (by omega)
def aRest (v : Nat → Int32) (f : Nat → Nat → Int32) : Option (Int32 × (Nat → Int32) × (Nat → Nat → Int32)) :=
  Option.bind (F_Mo_listAll v f) (fun z1 => (if (64 : Int32) < (z1.1 34) then (F_Mo_assemble_95 z1.1 z1.2) else (Option.bind (F_Mo_place z1.1 z1.2) (fun z2 => (if z2.1 = (0 : Int32) then (F_Mo_assemble_95 z2.2.1 z2.2.2) else (F_Mo_assemble_99 100 (0 : Int32) z2.2.1 z2.2.2))))))
theorem can_1 {n : Nat} {o g : Nat → Nat} {v : Nat → Int32} {f : Nat → Nat → Int32} (hn : n ≤ 12) (h28 : v 28 = nI n) (ho : ∀ k, k < n → f 29 k = nI (o k) ∧ o k < 7) (hg : ∀ k, k < n → o k = 4 → g k < 12 ∧ f 33 k = nI (g k)) : ∀ (d k q : Nat), k + d = n → d < q →
    ((∀ k', k ≤ k' → k' < n → o k' = 4 → g k' < n) ∧ F_Mo_assemble_22 q 1 (nI k) v f = aRest v f) ∨ ((∃ k', k ≤ k' ∧ k' < n ∧ o k' = 4 ∧ n ≤ g k') ∧ F_Mo_assemble_22 q 1 (nI k) v f = some (-1, v, f)) := by
  intro d
  induction d with
  | zero =>
    intro k q hk hq
    have hk : k = n := hk
    subst hk
    obtain ⟨q, rfl⟩ : ∃ p, q = p + 1 := ⟨q - 1, by omega⟩
    refine Or.inl ⟨fun k' h1 h2 => absurd h1 (by omega), ?_⟩
    rw [F_Mo_assemble_22, h28, if_pos (nI_le (Nat.le_refl _) (by omega)), if_neg i10]
    rfl
  | succ d ih =>
    intro k q hk hq
    obtain ⟨q, rfl⟩ : ∃ p, q = p + 1 := ⟨q - 1, by omega⟩
    have hkn : k < n := by omega
    obtain ⟨o1, o2⟩ := ho k hkn
    rw [F_Mo_assemble_22, h28, if_neg (nI_ge hkn (by omega)), if_neg i10, if_neg (nI_in (show k < 12 by omega) (by decide)), nI_clamp (by omega), o1]
    unfold F_Mo_assemble_61 F_Mo_assemble_57 F_Mo_assemble_62
    rw [nI_1]
    by_cases h4 : o k = 4
    · obtain ⟨g1, g2⟩ := hg k hkn h4
      rw [if_pos (show nI (o k) = (4 : Int32) by rw [h4]; rfl), if_neg (nI_in' (show k < 12 by omega) (by decide)), g2]
      by_cases hgn : g k < n
      · rw [if_neg (nI_ge hgn (by omega))]
        rcases ih (k + 1) q (by omega) (by omega) with ⟨c1, c2⟩ | ⟨⟨k', c1, c2, c3, c4⟩, c5⟩
        · refine Or.inl ⟨fun k' h1 h2 h3 => ?_, c2⟩
          by_cases hkk : k' = k
          · subst hkk; exact hgn
          · exact c1 k' (by omega) h2 h3
        · exact Or.inr ⟨⟨k', by omega, c2, c3, c4⟩, c5⟩
      · rw [if_pos (nI_le (by omega) (by omega))]
        exact Or.inr ⟨⟨k, Nat.le_refl _, hkn, h4, by omega⟩, can_0 hn h28 d (k + 1) q (by omega) (by omega)⟩
    · rw [if_neg (show ¬ nI (o k) = (4 : Int32) from fun q => h4 ((nI_eq (b := 4) (by omega) (by decide)).mp q))]
      rcases ih (k + 1) q (by omega) (by omega) with ⟨c1, c2⟩ | ⟨⟨k', c1, c2, c3, c4⟩, c5⟩
      · refine Or.inl ⟨fun k' h1 h2 h3 => ?_, c2⟩
        by_cases hkk : k' = k
        · subst hkk; exact absurd h3 h4
        · exact c1 k' (by omega) h2 h3
      · exact Or.inr ⟨⟨k', by omega, c2, c3, c4⟩, c5⟩
