theorem fl_a36 {t : Nat → Nat → Int32} {v : Nat → Int32} {u : Nat → Nat → Int32} {la : Nat → Option Nat} : ∀ (d l q : Nat) (f : Nat → Nat → Int32), l + d = 96 → d < q → (∀ j, j < l → f 3 j = 0) → ∃ f1, F_As_assemble_36 t q (nI l) v f u la = F_As_assemble_57 t 100 0 v f1 u la ∧ (∀ j, j < 96 → f1 3 j = 0) ∧ ∀ k, k ≠ 3 → f1 k = f k := by
  intro d
  induction d with
  | zero =>
    intro l q f hl hq hv
    have hl : l = 96 := hl
    subst hl
    obtain ⟨q, rfl⟩ : ∃ p, q = p + 1 := ⟨q - 1, by omega⟩
    refine ⟨f, ?_, hv, fun _ _ => rfl⟩
    rw [F_As_assemble_36, if_pos (show (96 : Int32) ≤ nI 96 from nI_le (Nat.le_refl _) (by decide))]
  | succ d ih =>
    intro l q f hl hq hv
    obtain ⟨q, rfl⟩ : ∃ p, q = p + 1 := ⟨q - 1, by omega⟩
    obtain ⟨f1, a1, a2, a3⟩ := ih (l + 1) q (va_up f 3 (upd (f 3) l ((0 : Int32) &&& 1))) (by omega) (by omega) (fun j hj => by
      show upd (f 3) l ((0 : Int32) &&& 1) j = 0
      by_cases hjl : j = l
      · rw [hjl, pk_us]
        decide
      · rw [pk_un hjl]
        exact hv j (by omega))
    refine ⟨f1, ?_, a2, fun k hk => (a3 k hk).trans (va_up_ne _ _ hk)⟩
    rw [F_As_assemble_36, if_neg (show ¬ (96 : Int32) ≤ nI l from nI_ge (b := 96) (by omega) (by decide)), if_neg (nI_in (show l < 96 by omega) (by decide)), nI_clamp (by omega), nI_1]
    exact a1
theorem fl_a57 {t : Nat → Nat → Int32} {v : Nat → Int32} {u : Nat → Nat → Int32} {la : Nat → Option Nat} : ∀ (d l q : Nat) (f : Nat → Nat → Int32), l + d = 16 → d < q → (∀ j, j < l → f 4 j = -1) → ∃ f1, F_As_assemble_57 t q (nI l) v f u la = F_As_assemble_78 t 13 0 v f1 u la ∧ (∀ j, j < 16 → f1 4 j = -1) ∧ ∀ k, k ≠ 4 → f1 k = f k := by
  intro d
  induction d with
  | zero =>
    intro l q f hl hq hv
    have hl : l = 16 := hl
    subst hl
    obtain ⟨q, rfl⟩ : ∃ p, q = p + 1 := ⟨q - 1, by omega⟩
    refine ⟨f, ?_, hv, fun _ _ => rfl⟩
    rw [F_As_assemble_57, if_pos (show (16 : Int32) ≤ nI 16 from nI_le (Nat.le_refl _) (by decide))]
  | succ d ih =>
    intro l q f hl hq hv
    obtain ⟨q, rfl⟩ : ∃ p, q = p + 1 := ⟨q - 1, by omega⟩
    obtain ⟨f1, a1, a2, a3⟩ := ih (l + 1) q (va_up f 4 (upd (f 4) l (-1))) (by omega) (by omega) (fun j hj => by
      show upd (f 4) l (-1) j = -1
      by_cases hjl : j = l
      · rw [hjl, pk_us]
      · rw [pk_un hjl]
        exact hv j (by omega))
    refine ⟨f1, ?_, a2, fun k hk => (a3 k hk).trans (va_up_ne _ _ hk)⟩
    rw [F_As_assemble_57, if_neg (show ¬ (16 : Int32) ≤ nI l from nI_ge (b := 16) (by omega) (by decide)), if_neg (nI_in (show l < 16 by omega) (by decide)), nI_clamp (by omega), nI_1]
    exact a1
theorem fl_p2 {tv : Nat → Int32} : ∀ (d l q : Nat) (f : Nat → Nat → Int32), l + d = 64 → d < q → (∀ j, j < l → f 41 j = 0) → ∃ f1, F_Mo_place_2 q (nI l) tv f  = F_Mo_place_23 100 0 tv f1 ∧ (∀ j, j < 64 → f1 41 j = 0) ∧ ∀ k, k ≠ 41 → f1 k = f k := by
  intro d
  induction d with
  | zero =>
    intro l q f hl hq hv
    have hl : l = 64 := hl
    subst hl
    obtain ⟨q, rfl⟩ : ∃ p, q = p + 1 := ⟨q - 1, by omega⟩
    refine ⟨f, ?_, hv, fun _ _ => rfl⟩
    rw [F_Mo_place_2, if_pos (show (64 : Int32) ≤ nI 64 from nI_le (Nat.le_refl _) (by decide))]
  | succ d ih =>
    intro l q f hl hq hv
    obtain ⟨q, rfl⟩ : ∃ p, q = p + 1 := ⟨q - 1, by omega⟩
    obtain ⟨f1, a1, a2, a3⟩ := ih (l + 1) q (va_up f 41 (upd (f 41) l ((0 : Int32) &&& 1))) (by omega) (by omega) (fun j hj => by
      show upd (f 41) l ((0 : Int32) &&& 1) j = 0
      by_cases hjl : j = l
      · rw [hjl, pk_us]
        decide
      · rw [pk_un hjl]
        exact hv j (by omega))
    refine ⟨f1, ?_, a2, fun k hk => (a3 k hk).trans (va_up_ne _ _ hk)⟩
    rw [F_Mo_place_2, if_neg (show ¬ (64 : Int32) ≤ nI l from nI_ge (b := 64) (by omega) (by decide)), if_neg (nI_in (show l < 64 by omega) (by decide)), nI_clamp (by omega), nI_1]
    exact a1
theorem fl_p23 {tv : Nat → Int32} : ∀ (d l q : Nat) (f : Nat → Nat → Int32), l + d = 32 → d < q → (∀ j, j < l → f 42 j = 0) → ∃ f1, F_Mo_place_23 q (nI l) tv f  = F_Mo_place_44 100 0 tv f1 ∧ (∀ j, j < 32 → f1 42 j = 0) ∧ ∀ k, k ≠ 42 → f1 k = f k := by
  intro d
  induction d with
  | zero =>
    intro l q f hl hq hv
    have hl : l = 32 := hl
    subst hl
    obtain ⟨q, rfl⟩ : ∃ p, q = p + 1 := ⟨q - 1, by omega⟩
    refine ⟨f, ?_, hv, fun _ _ => rfl⟩
    rw [F_Mo_place_23, if_pos (show (32 : Int32) ≤ nI 32 from nI_le (Nat.le_refl _) (by decide))]
  | succ d ih =>
    intro l q f hl hq hv
    obtain ⟨q, rfl⟩ : ∃ p, q = p + 1 := ⟨q - 1, by omega⟩
    obtain ⟨f1, a1, a2, a3⟩ := ih (l + 1) q (va_up f 42 (upd (f 42) l ((0 : Int32) &&& 1))) (by omega) (by omega) (fun j hj => by
      show upd (f 42) l ((0 : Int32) &&& 1) j = 0
      by_cases hjl : j = l
      · rw [hjl, pk_us]
        decide
      · rw [pk_un hjl]
        exact hv j (by omega))
    refine ⟨f1, ?_, a2, fun k hk => (a3 k hk).trans (va_up_ne _ _ hk)⟩
    rw [F_Mo_place_23, if_neg (show ¬ (32 : Int32) ≤ nI l from nI_ge (b := 32) (by omega) (by decide)), if_neg (nI_in (show l < 32 by omega) (by decide)), nI_clamp (by omega), nI_1]
    exact a1
theorem fl_p44 {tv : Nat → Int32} : ∀ (d l q : Nat) (f : Nat → Nat → Int32), l + d = 16 → d < q → (∀ j, j < l → f 43 j = -1) → ∃ f1, F_Mo_place_44 q (nI l) tv f  = F_Mo_place_67 100 0 0 tv f1 ∧ (∀ j, j < 16 → f1 43 j = -1) ∧ ∀ k, k ≠ 43 → f1 k = f k := by
  intro d
  induction d with
  | zero =>
    intro l q f hl hq hv
    have hl : l = 16 := hl
    subst hl
    obtain ⟨q, rfl⟩ : ∃ p, q = p + 1 := ⟨q - 1, by omega⟩
    refine ⟨f, ?_, hv, fun _ _ => rfl⟩
    rw [F_Mo_place_44, if_pos (show (16 : Int32) ≤ nI 16 from nI_le (Nat.le_refl _) (by decide))]
  | succ d ih =>
    intro l q f hl hq hv
    obtain ⟨q, rfl⟩ : ∃ p, q = p + 1 := ⟨q - 1, by omega⟩
    obtain ⟨f1, a1, a2, a3⟩ := ih (l + 1) q (va_up f 43 (upd (f 43) l (-1))) (by omega) (by omega) (fun j hj => by
      show upd (f 43) l (-1) j = -1
      by_cases hjl : j = l
      · rw [hjl, pk_us]
      · rw [pk_un hjl]
        exact hv j (by omega))
    refine ⟨f1, ?_, a2, fun k hk => (a3 k hk).trans (va_up_ne _ _ hk)⟩
    rw [F_Mo_place_44, if_neg (show ¬ (16 : Int32) ≤ nI l from nI_ge (b := 16) (by omega) (by decide)), if_neg (nI_in (show l < 16 by omega) (by decide)), nI_clamp (by omega), nI_1]
    exact a1
theorem fl_m99 {tv : Nat → Int32} : ∀ (d l q : Nat) (f : Nat → Nat → Int32), l + d = 64 → d < q → (∀ j, j < l → f 0 j = 1015824) → ∃ f1, F_Mo_assemble_99 q (nI l) tv f  = F_Mo_assemble_121 100 0 tv f1 ∧ (∀ j, j < 64 → f1 0 j = 1015824) ∧ ∀ k, k ≠ 0 → f1 k = f k := by
  intro d
  induction d with
  | zero =>
    intro l q f hl hq hv
    have hl : l = 64 := hl
    subst hl
    obtain ⟨q, rfl⟩ : ∃ p, q = p + 1 := ⟨q - 1, by omega⟩
    refine ⟨f, ?_, hv, fun _ _ => rfl⟩
    rw [F_Mo_assemble_99, if_pos (show (64 : Int32) ≤ nI 64 from nI_le (Nat.le_refl _) (by decide))]
  | succ d ih =>
    intro l q f hl hq hv
    obtain ⟨q, rfl⟩ : ∃ p, q = p + 1 := ⟨q - 1, by omega⟩
    obtain ⟨f1, a1, a2, a3⟩ := ih (l + 1) q (va_up f 0 (upd (f 0) l (1015824))) (by omega) (by omega) (fun j hj => by
      show upd (f 0) l (1015824) j = 1015824
      by_cases hjl : j = l
      · rw [hjl, pk_us]
      · rw [pk_un hjl]
        exact hv j (by omega))
    refine ⟨f1, ?_, a2, fun k hk => (a3 k hk).trans (va_up_ne _ _ hk)⟩
    rw [F_Mo_assemble_99, if_neg (show ¬ (64 : Int32) ≤ nI l from nI_ge (b := 64) (by omega) (by decide)), if_neg (nI_in (show l < 64 by omega) (by decide)), nI_clamp (by omega), nI_1]
    exact a1
theorem fl_k2 {t : Nat → Nat → Int32} {v : Nat → Int32} {u : Nat → Nat → Int32} {la : Nat → Option Nat} {fa : Nat → Nat → Int32} : ∀ (d l q : Nat) (f : Nat → Nat → Int32), l + d = 64 → d < q → (∀ j, j < l → f 0 j = 1015824) → ∃ f1, F_As_keep_2 t q (nI l) v fa u la f  = F_As_keep_21 t 100 0 v fa u la f1 ∧ (∀ j, j < 64 → f1 0 j = 1015824) ∧ ∀ k, k ≠ 0 → f1 k = f k := by
  intro d
  induction d with
  | zero =>
    intro l q f hl hq hv
    have hl : l = 64 := hl
    subst hl
    obtain ⟨q, rfl⟩ : ∃ p, q = p + 1 := ⟨q - 1, by omega⟩
    refine ⟨f, ?_, hv, fun _ _ => rfl⟩
    rw [F_As_keep_2, if_pos (show (64 : Int32) ≤ nI 64 from nI_le (Nat.le_refl _) (by decide))]
  | succ d ih =>
    intro l q f hl hq hv
    obtain ⟨q, rfl⟩ : ∃ p, q = p + 1 := ⟨q - 1, by omega⟩
    obtain ⟨f1, a1, a2, a3⟩ := ih (l + 1) q (va_up f 0 (upd (f 0) l (1015824))) (by omega) (by omega) (fun j hj => by
      show upd (f 0) l (1015824) j = 1015824
      by_cases hjl : j = l
      · rw [hjl, pk_us]
      · rw [pk_un hjl]
        exact hv j (by omega))
    refine ⟨f1, ?_, a2, fun k hk => (a3 k hk).trans (va_up_ne _ _ hk)⟩
    rw [F_As_keep_2, if_neg (show ¬ (64 : Int32) ≤ nI l from nI_ge (b := 64) (by omega) (by decide)), if_neg (nI_in (show l < 64 by omega) (by decide)), nI_clamp (by omega), nI_1]
    exact a1
