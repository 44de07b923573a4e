theorem i_lt {x y : Int32} : x < y ↔ x.toInt < y.toInt := Int32.lt_iff_toInt_lt
theorem i_le {x y : Int32} : x ≤ y ↔ x.toInt ≤ y.toInt := Int32.le_iff_toInt_le
theorem i_eq {x y : Int32} : x = y ↔ x.toInt = y.toInt := Int32.toInt_inj.symm

theorem there_out (x1 x2 : Int32) (v : Nat → Int32) (f : Nat → Nat → Int32) (w : Nat → Nat) (h : x1.toInt < 2 ∨ 8 < x1.toInt) : F_DM_there x1 x2 v f w = some 0 ∧ F_Mo_wordAt x1 x2 = some (-1) := by
  unfold F_DM_there F_DM_there_31 F_Mo_wordAt F_Mo_wordAt_34 F_Mo_wordAt_86
  have n6 : ¬ x1 = 6 := fun q => by have := congrArg Int32.toInt q; rw [show (6 : Int32).toInt = 6 from rfl] at this; omega
  have n7 : ¬ x1 = 7 := fun q => by have := congrArg Int32.toInt q; rw [show (7 : Int32).toInt = 7 from rfl] at this; omega
  have n8 : ¬ x1 = 8 := fun q => by have := congrArg Int32.toInt q; rw [show (8 : Int32).toInt = 8 from rfl] at this; omega
  rcases h with h | h
  · have a : x1 < 2 := i_lt.mpr h
    have b : x1 ≤ 1 := i_le.mpr (by rw [show (1 : Int32).toInt = 1 from rfl]; omega)
    exact ⟨if_pos a, by rw [if_pos b, if_neg n6, if_neg n7, if_neg n8]⟩
  · have a : ¬ x1 < 2 := fun q => by have := i_lt.mp q; rw [show (2 : Int32).toInt = 2 from rfl] at this; omega
    have b : ¬ x1 ≤ 1 := fun q => by have := i_le.mp q; rw [show (1 : Int32).toInt = 1 from rfl] at this; omega
    have c : 8 < x1 := i_lt.mpr h
    have d : 6 ≤ x1 := i_le.mpr (by rw [show (6 : Int32).toInt = 6 from rfl]; omega)
    exact ⟨by rw [if_neg a, if_pos c], by rw [if_neg b, if_pos d, if_neg n6, if_neg n7, if_neg n8]⟩
theorem there_2 (x2 : Int32) (v : Nat → Int32) (f : Nat → Nat → Int32) (w : Nat → Nat) : (∃ j, ln 2 j ∧ x2 = nI j ∧ F_DM_there (nI 2) x2 v f w = some 1 ∧ F_Mo_wordAt (nI 2) x2 = some (nI (ad 2 j))) ∨ (F_DM_there (nI 2) x2 v f w = some 0 ∧ F_Mo_wordAt (nI 2) x2 = some (-1)) := by
  have e1 : F_DM_there (nI 2) x2 v f w = Option.bind (F_Li_has_2 x2 v f w) (fun z1 => if z1 = 0 then some 0 else some 1) := rfl
  have e2 : F_Mo_wordAt (nI 2) x2 = (if x2 < (0 : Int32) then some (-1) else if (32 : Int32) ≤ x2 then some (-1) else some ((32 : Int32) * (nI 2 - 2) + x2)) := rfl
  rw [e1, e2]
  unfold F_Li_has_2 F_Li_has_2_17
  rcases pk_ix x2 (n := 32) (by decide) with h | h | ⟨j, hj, rfl⟩
  · refine Or.inr ⟨by rw [if_pos h]; rfl, ?_⟩
    rw [if_pos h]
  · have h0 : ¬ x2 < 0 := fun q => absurd (Int32.lt_of_le_of_lt h q) (by decide)
    refine Or.inr ⟨by rw [if_neg h0, if_pos (show (32 : Int32) ≤ x2 from h)]; rfl, ?_⟩
    rw [if_neg h0, if_pos (show (32 : Int32) ≤ x2 from h)]
  · have h1 : ¬ nI j < 0 := nI_pos (by omega)
    have h2 : ¬ (32 : Int32) ≤ nI j := nI_ge (b := 32) hj (by decide)
    refine Or.inl ⟨j, by unfold ln; omega, rfl, by rw [if_neg h1, if_neg h2]; rfl, ?_⟩
    rw [if_neg h1, if_neg h2, show (32 : Int32) * (nI 2 - 2) = nI 0 from rfl, nI_add]
    rfl
theorem there_3 (x2 : Int32) (v : Nat → Int32) (f : Nat → Nat → Int32) (w : Nat → Nat) : (∃ j, ln 3 j ∧ x2 = nI j ∧ F_DM_there (nI 3) x2 v f w = some 1 ∧ F_Mo_wordAt (nI 3) x2 = some (nI (ad 3 j))) ∨ (F_DM_there (nI 3) x2 v f w = some 0 ∧ F_Mo_wordAt (nI 3) x2 = some (-1)) := by
  have e1 : F_DM_there (nI 3) x2 v f w = Option.bind (F_Li_has_3 x2 v f w) (fun z1 => if z1 = 0 then some 0 else some 1) := rfl
  have e2 : F_Mo_wordAt (nI 3) x2 = (if x2 < (0 : Int32) then some (-1) else if (32 : Int32) ≤ x2 then some (-1) else some ((32 : Int32) * (nI 3 - 2) + x2)) := rfl
  rw [e1, e2]
  unfold F_Li_has_3 F_Li_has_3_17
  rcases pk_ix x2 (n := 32) (by decide) with h | h | ⟨j, hj, rfl⟩
  · refine Or.inr ⟨by rw [if_pos h]; rfl, ?_⟩
    rw [if_pos h]
  · have h0 : ¬ x2 < 0 := fun q => absurd (Int32.lt_of_le_of_lt h q) (by decide)
    refine Or.inr ⟨by rw [if_neg h0, if_pos (show (32 : Int32) ≤ x2 from h)]; rfl, ?_⟩
    rw [if_neg h0, if_pos (show (32 : Int32) ≤ x2 from h)]
  · have h1 : ¬ nI j < 0 := nI_pos (by omega)
    have h2 : ¬ (32 : Int32) ≤ nI j := nI_ge (b := 32) hj (by decide)
    refine Or.inl ⟨j, by unfold ln; omega, rfl, by rw [if_neg h1, if_neg h2]; rfl, ?_⟩
    rw [if_neg h1, if_neg h2, show (32 : Int32) * (nI 3 - 2) = nI 32 from rfl, nI_add]
    rfl
theorem there_4 (x2 : Int32) (v : Nat → Int32) (f : Nat → Nat → Int32) (w : Nat → Nat) : (∃ j, ln 4 j ∧ x2 = nI j ∧ F_DM_there (nI 4) x2 v f w = some 1 ∧ F_Mo_wordAt (nI 4) x2 = some (nI (ad 4 j))) ∨ (F_DM_there (nI 4) x2 v f w = some 0 ∧ F_Mo_wordAt (nI 4) x2 = some (-1)) := by
  have e1 : F_DM_there (nI 4) x2 v f w = Option.bind (F_Li_has_4 x2 v f w) (fun z1 => if z1 = 0 then some 0 else some 1) := rfl
  have e2 : F_Mo_wordAt (nI 4) x2 = (if x2 < (0 : Int32) then some (-1) else if (32 : Int32) ≤ x2 then some (-1) else some ((32 : Int32) * (nI 4 - 2) + x2)) := rfl
  rw [e1, e2]
  unfold F_Li_has_4 F_Li_has_4_17
  rcases pk_ix x2 (n := 32) (by decide) with h | h | ⟨j, hj, rfl⟩
  · refine Or.inr ⟨by rw [if_pos h]; rfl, ?_⟩
    rw [if_pos h]
  · have h0 : ¬ x2 < 0 := fun q => absurd (Int32.lt_of_le_of_lt h q) (by decide)
    refine Or.inr ⟨by rw [if_neg h0, if_pos (show (32 : Int32) ≤ x2 from h)]; rfl, ?_⟩
    rw [if_neg h0, if_pos (show (32 : Int32) ≤ x2 from h)]
  · have h1 : ¬ nI j < 0 := nI_pos (by omega)
    have h2 : ¬ (32 : Int32) ≤ nI j := nI_ge (b := 32) hj (by decide)
    refine Or.inl ⟨j, by unfold ln; omega, rfl, by rw [if_neg h1, if_neg h2]; rfl, ?_⟩
    rw [if_neg h1, if_neg h2, show (32 : Int32) * (nI 4 - 2) = nI 64 from rfl, nI_add]
    rfl
theorem there_5 (x2 : Int32) (v : Nat → Int32) (f : Nat → Nat → Int32) (w : Nat → Nat) : (∃ j, ln 5 j ∧ x2 = nI j ∧ F_DM_there (nI 5) x2 v f w = some 1 ∧ F_Mo_wordAt (nI 5) x2 = some (nI (ad 5 j))) ∨ (F_DM_there (nI 5) x2 v f w = some 0 ∧ F_Mo_wordAt (nI 5) x2 = some (-1)) := by
  have e1 : F_DM_there (nI 5) x2 v f w = Option.bind (F_Li_has_5 x2 v f w) (fun z1 => if z1 = 0 then some 0 else some 1) := rfl
  have e2 : F_Mo_wordAt (nI 5) x2 = (if x2 < (0 : Int32) then some (-1) else if (32 : Int32) ≤ x2 then some (-1) else some ((32 : Int32) * (nI 5 - 2) + x2)) := rfl
  rw [e1, e2]
  unfold F_Li_has_5 F_Li_has_5_17
  rcases pk_ix x2 (n := 32) (by decide) with h | h | ⟨j, hj, rfl⟩
  · refine Or.inr ⟨by rw [if_pos h]; rfl, ?_⟩
    rw [if_pos h]
  · have h0 : ¬ x2 < 0 := fun q => absurd (Int32.lt_of_le_of_lt h q) (by decide)
    refine Or.inr ⟨by rw [if_neg h0, if_pos (show (32 : Int32) ≤ x2 from h)]; rfl, ?_⟩
    rw [if_neg h0, if_pos (show (32 : Int32) ≤ x2 from h)]
  · have h1 : ¬ nI j < 0 := nI_pos (by omega)
    have h2 : ¬ (32 : Int32) ≤ nI j := nI_ge (b := 32) hj (by decide)
    refine Or.inl ⟨j, by unfold ln; omega, rfl, by rw [if_neg h1, if_neg h2]; rfl, ?_⟩
    rw [if_neg h1, if_neg h2, show (32 : Int32) * (nI 5 - 2) = nI 96 from rfl, nI_add]
    rfl
theorem there_6 (x2 : Int32) (v : Nat → Int32) (f : Nat → Nat → Int32) (w : Nat → Nat) : (∃ j, ln 6 j ∧ x2 = nI j ∧ F_DM_there (nI 6) x2 v f w = some 1 ∧ F_Mo_wordAt (nI 6) x2 = some (nI (ad 6 j))) ∨ (F_DM_there (nI 6) x2 v f w = some 0 ∧ F_Mo_wordAt (nI 6) x2 = some (-1)) := by
  have e1 : F_DM_there (nI 6) x2 v f w = Option.bind (F_Li_has_6 x2 v f w) (fun z1 => if z1 = 0 then some 0 else some 1) := rfl
  have e2 : F_Mo_wordAt (nI 6) x2 = (if x2 = (0 : Int32) then some ((128 : Int32) + nI 6 - 6) else some (-1)) := rfl
  rw [e1, e2]
  unfold F_Li_has_6 F_Li_has_6_17
  rcases pk_ix x2 (n := 1) (by decide) with h | h | ⟨j, hj, rfl⟩
  · refine Or.inr ⟨by rw [if_pos h]; rfl, ?_⟩
    rw [if_neg]
    rintro rfl
    exact absurd h (by decide)
  · have h0 : ¬ x2 < 0 := fun q => absurd (Int32.lt_of_le_of_lt h q) (by decide)
    refine Or.inr ⟨by rw [if_neg h0, if_pos (show (1 : Int32) ≤ x2 from h)]; rfl, ?_⟩
    rw [if_neg]
    rintro rfl
    exact absurd h (by decide)
  · have h1 : ¬ nI j < 0 := nI_pos (by omega)
    have h2 : ¬ (1 : Int32) ≤ nI j := nI_ge (b := 1) hj (by decide)
    refine Or.inl ⟨j, by unfold ln; omega, rfl, by rw [if_neg h1, if_neg h2]; rfl, ?_⟩
    obtain rfl : j = 0 := by omega
    rfl
theorem there_7 (x2 : Int32) (v : Nat → Int32) (f : Nat → Nat → Int32) (w : Nat → Nat) : (∃ j, ln 7 j ∧ x2 = nI j ∧ F_DM_there (nI 7) x2 v f w = some 1 ∧ F_Mo_wordAt (nI 7) x2 = some (nI (ad 7 j))) ∨ (F_DM_there (nI 7) x2 v f w = some 0 ∧ F_Mo_wordAt (nI 7) x2 = some (-1)) := by
  have e1 : F_DM_there (nI 7) x2 v f w = Option.bind (F_Li_has_7 x2 v f w) (fun z1 => if z1 = 0 then some 0 else some 1) := rfl
  have e2 : F_Mo_wordAt (nI 7) x2 = (if x2 = (0 : Int32) then some ((128 : Int32) + nI 7 - 6) else some (-1)) := rfl
  rw [e1, e2]
  unfold F_Li_has_7 F_Li_has_7_17
  rcases pk_ix x2 (n := 1) (by decide) with h | h | ⟨j, hj, rfl⟩
  · refine Or.inr ⟨by rw [if_pos h]; rfl, ?_⟩
    rw [if_neg]
    rintro rfl
    exact absurd h (by decide)
  · have h0 : ¬ x2 < 0 := fun q => absurd (Int32.lt_of_le_of_lt h q) (by decide)
    refine Or.inr ⟨by rw [if_neg h0, if_pos (show (1 : Int32) ≤ x2 from h)]; rfl, ?_⟩
    rw [if_neg]
    rintro rfl
    exact absurd h (by decide)
  · have h1 : ¬ nI j < 0 := nI_pos (by omega)
    have h2 : ¬ (1 : Int32) ≤ nI j := nI_ge (b := 1) hj (by decide)
    refine Or.inl ⟨j, by unfold ln; omega, rfl, by rw [if_neg h1, if_neg h2]; rfl, ?_⟩
    obtain rfl : j = 0 := by omega
    rfl
theorem there_8 (x2 : Int32) (v : Nat → Int32) (f : Nat → Nat → Int32) (w : Nat → Nat) : (∃ j, ln 8 j ∧ x2 = nI j ∧ F_DM_there (nI 8) x2 v f w = some 1 ∧ F_Mo_wordAt (nI 8) x2 = some (nI (ad 8 j))) ∨ (F_DM_there (nI 8) x2 v f w = some 0 ∧ F_Mo_wordAt (nI 8) x2 = some (-1)) := by
  have e1 : F_DM_there (nI 8) x2 v f w = Option.bind (F_Li_has_8 x2 v f w) (fun z1 => if z1 = 0 then some 0 else some 1) := rfl
  have e2 : F_Mo_wordAt (nI 8) x2 = (if x2 = (0 : Int32) then some ((130 : Int32) + x2) else if x2 = (1 : Int32) then some ((130 : Int32) + x2) else some (-1)) := rfl
  rw [e1, e2]
  unfold F_Li_has_8 F_Li_has_8_17
  rcases pk_ix x2 (n := 2) (by decide) with h | h | ⟨j, hj, rfl⟩
  · refine Or.inr ⟨by rw [if_pos h]; rfl, ?_⟩
    rw [if_neg, if_neg]
    · rintro rfl
      exact absurd h (by decide)
    · rintro rfl
      exact absurd h (by decide)
  · have h0 : ¬ x2 < 0 := fun q => absurd (Int32.lt_of_le_of_lt h q) (by decide)
    refine Or.inr ⟨by rw [if_neg h0, if_pos (show (2 : Int32) ≤ x2 from h)]; rfl, ?_⟩
    rw [if_neg, if_neg]
    · rintro rfl
      exact absurd h (by decide)
    · rintro rfl
      exact absurd h (by decide)
  · have h1 : ¬ nI j < 0 := nI_pos (by omega)
    have h2 : ¬ (2 : Int32) ≤ nI j := nI_ge (b := 2) hj (by decide)
    refine Or.inl ⟨j, by unfold ln; omega, rfl, by rw [if_neg h1, if_neg h2]; rfl, ?_⟩
    have : j = 0 ∨ j = 1 := by omega
    rcases this with rfl | rfl
    · rfl
    · rfl
theorem there_sp (x1 x2 : Int32) (v : Nat → Int32) (f : Nat → Nat → Int32) (w : Nat → Nat) : (∃ k j, ln k j ∧ x1 = nI k ∧ x2 = nI j ∧ F_DM_there x1 x2 v f w = some 1 ∧ F_Mo_wordAt x1 x2 = some (nI (ad k j))) ∨ (F_DM_there x1 x2 v f w = some 0 ∧ F_Mo_wordAt x1 x2 = some (-1)) := by
  rcases pk_ix x1 (n := 9) (by decide) with h | h | ⟨k, hk, rfl⟩
  · exact Or.inr (there_out x1 x2 v f w (Or.inl (by have := i_lt.mp h; rw [show (0 : Int32).toInt = 0 from rfl] at this; omega)))
  · exact Or.inr (there_out x1 x2 v f w (Or.inr (by have := i_le.mp h; rw [nI_toInt (by decide)] at this; omega)))
  · have : k < 2 ∨ k = 2 ∨ k = 3 ∨ k = 4 ∨ k = 5 ∨ k = 6 ∨ k = 7 ∨ k = 8 := by omega
    rcases this with h | rfl | rfl | rfl | rfl | rfl | rfl | rfl
    · exact Or.inr (there_out _ x2 v f w (Or.inl (by rw [nI_toInt (by omega)]; omega)))
    · rcases there_2 x2 v f w with ⟨j, h1, h2, h3, h4⟩ | h
      · exact Or.inl ⟨2, j, h1, rfl, h2, h3, h4⟩
      · exact Or.inr h
    · rcases there_3 x2 v f w with ⟨j, h1, h2, h3, h4⟩ | h
      · exact Or.inl ⟨3, j, h1, rfl, h2, h3, h4⟩
      · exact Or.inr h
    · rcases there_4 x2 v f w with ⟨j, h1, h2, h3, h4⟩ | h
      · exact Or.inl ⟨4, j, h1, rfl, h2, h3, h4⟩
      · exact Or.inr h
    · rcases there_5 x2 v f w with ⟨j, h1, h2, h3, h4⟩ | h
      · exact Or.inl ⟨5, j, h1, rfl, h2, h3, h4⟩
      · exact Or.inr h
    · rcases there_6 x2 v f w with ⟨j, h1, h2, h3, h4⟩ | h
      · exact Or.inl ⟨6, j, h1, rfl, h2, h3, h4⟩
      · exact Or.inr h
    · rcases there_7 x2 v f w with ⟨j, h1, h2, h3, h4⟩ | h
      · exact Or.inl ⟨7, j, h1, rfl, h2, h3, h4⟩
      · exact Or.inr h
    · rcases there_8 x2 v f w with ⟨j, h1, h2, h3, h4⟩ | h
      · exact Or.inl ⟨8, j, h1, rfl, h2, h3, h4⟩
      · exact Or.inr h
theorem DMword_eq {k j : Nat} (hl : ln k j) (x3 : Int32) (v : Nat → Int32) (f : Nat → Nat → Int32) (w : Nat → Nat) (h : F_DM_there (nI k) (nI j) v f w = some 1) : F_DM_word (nI k) (nI j) x3 v f w = some (1, v, va_up f k (upd (f k) j x3.toInt16.toInt32), w) := by
  unfold F_DM_word
  rw [h]
  have hk : k = 2 ∨ k = 3 ∨ k = 4 ∨ k = 5 ∨ k = 6 ∨ k = 7 ∨ k = 8 := by unfold ln at hl; omega
  rcases hk with rfl | rfl | rfl | rfl | rfl | rfl | rfl
  · have hj : j < 32 := by unfold ln at hl; omega
    show (if nI j < 0 ∨ 32 ≤ (nI j).toNatClampNeg then none else some ((1 : Int32), v, va_up f 2 (upd (f 2) (nI j).toNatClampNeg x3.toInt16.toInt32), w)) = _
    rw [if_neg (nI_in hj (by decide)), nI_clamp (by omega)]
  · have hj : j < 32 := by unfold ln at hl; omega
    show (if nI j < 0 ∨ 32 ≤ (nI j).toNatClampNeg then none else some ((1 : Int32), v, va_up f 3 (upd (f 3) (nI j).toNatClampNeg x3.toInt16.toInt32), w)) = _
    rw [if_neg (nI_in hj (by decide)), nI_clamp (by omega)]
  · have hj : j < 32 := by unfold ln at hl; omega
    show (if nI j < 0 ∨ 32 ≤ (nI j).toNatClampNeg then none else some ((1 : Int32), v, va_up f 4 (upd (f 4) (nI j).toNatClampNeg x3.toInt16.toInt32), w)) = _
    rw [if_neg (nI_in hj (by decide)), nI_clamp (by omega)]
  · have hj : j < 32 := by unfold ln at hl; omega
    show (if nI j < 0 ∨ 32 ≤ (nI j).toNatClampNeg then none else some ((1 : Int32), v, va_up f 5 (upd (f 5) (nI j).toNatClampNeg x3.toInt16.toInt32), w)) = _
    rw [if_neg (nI_in hj (by decide)), nI_clamp (by omega)]
  · have hj : j < 1 := by unfold ln at hl; omega
    show (if nI j < 0 ∨ 1 ≤ (nI j).toNatClampNeg then none else some ((1 : Int32), v, va_up f 6 (upd (f 6) (nI j).toNatClampNeg x3.toInt16.toInt32), w)) = _
    rw [if_neg (nI_in hj (by decide)), nI_clamp (by omega)]
  · have hj : j < 1 := by unfold ln at hl; omega
    show (if nI j < 0 ∨ 1 ≤ (nI j).toNatClampNeg then none else some ((1 : Int32), v, va_up f 7 (upd (f 7) (nI j).toNatClampNeg x3.toInt16.toInt32), w)) = _
    rw [if_neg (nI_in hj (by decide)), nI_clamp (by omega)]
  · have hj : j < 2 := by unfold ln at hl; omega
    show (if nI j < 0 ∨ 2 ≤ (nI j).toNatClampNeg then none else some ((1 : Int32), v, va_up f 8 (upd (f 8) (nI j).toNatClampNeg x3.toInt16.toInt32), w)) = _
    rw [if_neg (nI_in hj (by decide)), nI_clamp (by omega)]
theorem DMpeek_eq {k j : Nat} (hl : ln k j) (v : Nat → Int32) (f : Nat → Nat → Int32) (w : Nat → Nat) (h : F_DM_there (nI k) (nI j) v f w = some 1) (hs : sh (f k j)) : F_DM_peek (nI k) (nI j) v f w = some (f k j) := by
  unfold F_DM_peek
  rw [h]
  have hk : k = 2 ∨ k = 3 ∨ k = 4 ∨ k = 5 ∨ k = 6 ∨ k = 7 ∨ k = 8 := by unfold ln at hl; omega
  rcases hk with rfl | rfl | rfl | rfl | rfl | rfl | rfl
  · have hj : j < 32 := by unfold ln at hl; omega
    show (if nI j < 0 ∨ 32 ≤ (nI j).toNatClampNeg then none else if ((f 2) (nI j).toNatClampNeg).toInt16.toInt32 = ((f 2) (nI j).toNatClampNeg) then some ((f 2) (nI j).toNatClampNeg) else none) = _
    rw [if_neg (nI_in hj (by decide)), nI_clamp (by omega), if_pos hs]
  · have hj : j < 32 := by unfold ln at hl; omega
    show (if nI j < 0 ∨ 32 ≤ (nI j).toNatClampNeg then none else if ((f 3) (nI j).toNatClampNeg).toInt16.toInt32 = ((f 3) (nI j).toNatClampNeg) then some ((f 3) (nI j).toNatClampNeg) else none) = _
    rw [if_neg (nI_in hj (by decide)), nI_clamp (by omega), if_pos hs]
  · have hj : j < 32 := by unfold ln at hl; omega
    show (if nI j < 0 ∨ 32 ≤ (nI j).toNatClampNeg then none else if ((f 4) (nI j).toNatClampNeg).toInt16.toInt32 = ((f 4) (nI j).toNatClampNeg) then some ((f 4) (nI j).toNatClampNeg) else none) = _
    rw [if_neg (nI_in hj (by decide)), nI_clamp (by omega), if_pos hs]
  · have hj : j < 32 := by unfold ln at hl; omega
    show (if nI j < 0 ∨ 32 ≤ (nI j).toNatClampNeg then none else if ((f 5) (nI j).toNatClampNeg).toInt16.toInt32 = ((f 5) (nI j).toNatClampNeg) then some ((f 5) (nI j).toNatClampNeg) else none) = _
    rw [if_neg (nI_in hj (by decide)), nI_clamp (by omega), if_pos hs]
  · have hj : j < 1 := by unfold ln at hl; omega
    show (if nI j < 0 ∨ 1 ≤ (nI j).toNatClampNeg then none else if ((f 6) (nI j).toNatClampNeg).toInt16.toInt32 = ((f 6) (nI j).toNatClampNeg) then some ((f 6) (nI j).toNatClampNeg) else none) = _
    rw [if_neg (nI_in hj (by decide)), nI_clamp (by omega), if_pos hs]
  · have hj : j < 1 := by unfold ln at hl; omega
    show (if nI j < 0 ∨ 1 ≤ (nI j).toNatClampNeg then none else if ((f 7) (nI j).toNatClampNeg).toInt16.toInt32 = ((f 7) (nI j).toNatClampNeg) then some ((f 7) (nI j).toNatClampNeg) else none) = _
    rw [if_neg (nI_in hj (by decide)), nI_clamp (by omega), if_pos hs]
  · have hj : j < 2 := by unfold ln at hl; omega
    show (if nI j < 0 ∨ 2 ≤ (nI j).toNatClampNeg then none else if ((f 8) (nI j).toNatClampNeg).toInt16.toInt32 = ((f 8) (nI j).toNatClampNeg) then some ((f 8) (nI j).toNatClampNeg) else none) = _
    rw [if_neg (nI_in hj (by decide)), nI_clamp (by omega), if_pos hs]
theorem word_ok {N : Nat} {mv : Nat → Int32} {mf : Nat → Nat → Int32} {mi : Nat → Nat} {tv : Nat → Int32} {tf : Nat → Nat → Int32} (x1 x2 x3 : Int32) (h : rM N mv mf mi tv tf) :
    ∃ (r : Int32) (mf1 tf1 : Nat → Nat → Int32), F_DM_word x1 x2 x3 mv mf mi = some (r, mv, mf1, mi) ∧ F_Mo_word x1 x2 x3 tv tf = some (r, tv, tf1) ∧ rM N mv mf1 mi tv tf1 ∧ fT tv tf tv tf1 := by
  rcases there_sp x1 x2 mv mf mi with ⟨k, j, hl, rfl, rfl, e1, e2⟩ | ⟨e1, e2⟩
  · have ha := ad_lt hl
    refine ⟨1, _, va_up tf 1 (upd (tf 1) (ad k j) x3.toInt16.toInt32), DMword_eq hl x3 mv mf mi e1, ?_, ?_, fun _ _ => rfl, fun k hk => va_up_ne _ _ (by omega)⟩
    · unfold F_Mo_word F_Mo_word_20
      rw [e2, Option.bind_some, if_neg (nI_pos (by omega)), if_neg (nI_in ha (by decide)), if_neg (nI_pos (by omega)), nI_clamp (by omega)]
    · obtain ⟨a1, a2, a3, a4, a5, a6, a7, a8, a9, a10, a11, a12⟩ := h
      have hk : 2 ≤ k ∧ k ≤ 8 := by unfold ln at hl; omega
      refine ⟨a1, a2, a3, a4, a5, ?_, rWd_up a7 hl (sh_mk x3), a8, a9, ?_, ?_, a12⟩
      · rw [va_up_ne mf _ (show (0 : Nat) ≠ k by omega)]
        exact a6
      · rw [va_up_ne mf _ (show (9 : Nat) ≠ k by omega)]
        exact a10
      · rw [va_up_ne mf _ (show (10 : Nat) ≠ k by omega)]
        exact a11
  · refine ⟨0, mf, tf, ?_, ?_, h, fT.rf⟩
    · unfold F_DM_word
      rw [e1, Option.bind_some, if_pos rfl]
    · unfold F_Mo_word F_Mo_word_20
      rw [e2, Option.bind_some, if_pos (by decide), if_pos (by decide)]
theorem peek_ok {N : Nat} {mv : Nat → Int32} {mf : Nat → Nat → Int32} {mi : Nat → Nat} {tv : Nat → Int32} {tf : Nat → Nat → Int32} (x1 x2 : Int32) (h : rM N mv mf mi tv tf) : ∃ r : Int32, F_DM_peek x1 x2 mv mf mi = some r ∧ F_Mo_peek x1 x2 tv tf = some r := by
  obtain ⟨a1, a2, a3, a4, a5, a6, a7, a8, a9, a10, a11, a12⟩ := h
  rcases there_sp x1 x2 mv mf mi with ⟨k, j, hl, rfl, rfl, e1, e2⟩ | ⟨e1, e2⟩
  · have ha := ad_lt hl
    obtain ⟨b1, b2⟩ := a7 k j hl
    refine ⟨mf k j, DMpeek_eq hl mv mf mi e1 b2, ?_⟩
    unfold F_Mo_peek
    rw [e2, Option.bind_some, if_pos (nI_pos' (by omega)), if_neg (nI_in ha (by decide)), nI_clamp (by omega), b1, if_pos b2]
  · refine ⟨0, ?_, ?_⟩
    · unfold F_DM_peek
      rw [e1, Option.bind_some, if_pos rfl]
    · unfold F_Mo_peek
      rw [e2, Option.bind_some, if_neg (by decide)]
theorem read_ok {N : Nat} {mv : Nat → Int32} {mf : Nat → Nat → Int32} {mi : Nat → Nat} {tv : Nat → Int32} {tf : Nat → Nat → Int32} (x1 x2 : Int32) (h : rM N mv mf mi tv tf) : ∃ r : Int32, F_DM_read x1 x2 mv mf mi = some r ∧ F_Mo_read2 x1 x2 tv tf = some r := by
  obtain ⟨a1, a2, a3, a4, a5, a6, a7, a8, a9, a10, a11, a12⟩ := h
  unfold F_DM_read F_Mo_read2 F_DM_read_34
  rcases isOrder_sp x1 x2 with ⟨⟨⟨i, hi, rfl⟩, j, hj, rfl⟩, e⟩ | ⟨hn, e⟩
  · have h1 : F_DM_within (nI i) (2 : Int32) = some 1 := (within_sp (nI i) 2 (by decide)).elim (fun h => h.2) (fun h => absurd ⟨i, hi, rfl⟩ h.1)
    have h2 : F_DM_within (nI j) (32 : Int32) = some 1 := (within_sp (nI j) 32 (by decide)).elim (fun h => h.2) (fun h => absurd ⟨j, hj, rfl⟩ h.1)
    have q1 : ¬ (nI (32 * i + j) < 0 ∨ 64 ≤ (nI (32 * i + j)).toNatClampNeg) := nI_in (by omega) (by decide)
    refine ⟨mf 0 (32 * i + j), ?_, ?_⟩
    · rw [h1, h2, ord_ix hi hj]
      simp only [Option.bind_some, ↓if_neg q1, if_neg i10, nI_clamp (show 32 * i + j < 2 ^ 31 by omega)]
    · rw [e, ord_ix hi hj]
      simp only [Option.bind_some, ↓if_neg q1, if_neg i10, nI_clamp (show 32 * i + j < 2 ^ 31 by omega), (a6 (32 * i + j) (by omega)).1]
  · refine ⟨-1, ?_, by rw [e, Option.bind_some, if_pos rfl]⟩
    rcases within_sp x1 2 (by decide) with ⟨h1, e1⟩ | ⟨h1, e1⟩
    · have e1 : F_DM_within x1 (2 : Int32) = some 1 := e1
      have e2 : F_DM_within x2 (32 : Int32) = some 0 := (within_sp x2 32 (by decide)).elim (fun h => absurd ⟨h1, h.1⟩ hn) (fun h => h.2)
      rw [e1, e2, Option.bind_some, if_neg i10, Option.bind_some, if_pos rfl]
    · have e1 : F_DM_within x1 (2 : Int32) = some 0 := e1
      rw [e1, Option.bind_some, if_pos rfl]
theorem punched_ok {N : Nat} {mv : Nat → Int32} {mf : Nat → Nat → Int32} {mi : Nat → Nat} {tv : Nat → Int32} {tf : Nat → Nat → Int32} (x1 : Int32) (h : rM N mv mf mi tv tf) : ∃ r : Int32, F_DM_punched x1 mv mf mi = some r ∧ F_Mo_punched x1 tv tf = some r := by
  obtain ⟨a1, a2, a3, a4, a5, a6, a7, a8, a9, a10, ⟨b1, b2, ⟨n, hn, b3, b4⟩, -⟩, a12⟩ := h
  unfold F_DM_punched F_Mo_punched F_Mo_punched_12
  rw [b1, b3]
  rcases within_sp x1 n (by omega) with ⟨⟨j, hj, rfl⟩, e⟩ | ⟨h, e⟩
  · refine ⟨mf 10 j, ?_, ?_⟩
    · rw [e, Option.bind_some, if_neg i10, if_neg (nI_in (by omega) (by decide)), nI_clamp (by omega), if_pos (b4 j hj).2]
    · rw [if_neg (nI_pos (by omega)), if_pos (nI_lt hj (by omega)), if_neg (nI_in (by omega) (by decide)), nI_clamp (by omega), (b4 j hj).1, if_pos (b4 j hj).2]
  · refine ⟨0, by rw [e, Option.bind_some, if_pos rfl], ?_⟩
    by_cases h0 : x1 < 0
    · rw [if_pos h0]
    · rw [if_neg h0, if_neg]
      intro h2
      obtain ⟨j, hj, rfl⟩ := nI_of h0
      exact h ⟨j, (nI_ltI (by omega) (by omega)).mp h2, rfl⟩
theorem look_ok {N : Nat} {mv : Nat → Int32} {mf : Nat → Nat → Int32} {mi : Nat → Nat} {tv : Nat → Int32} {tf : Nat → Nat → Int32} (x1 : Int32) (h : rM N mv mf mi tv tf) : ∃ r : Int32, F_DM_look x1 mv mf mi = some r ∧ F_Mo_look x1 tv tf = some r := by
  obtain ⟨a1, a2, a3, a4, a5, a6, a7, ⟨c1, c2, c3, c4⟩, ⟨d1, d2, d3⟩, ⟨c, n, e1, e2, e3, e4, e5, e6, -⟩, ⟨b1, b2, b3, -⟩, a12⟩ := h
  unfold F_DM_look F_Mo_look
  rw [a4, a3, a2, a1, c1, e3, e5, e6, b1, d1, pk_sub e1]
  by_cases h0 : mv 17 = 0
  · rw [(c3 h0).1, (c3 h0).2, if_pos h0, if_pos h0]
    (repeat' split) <;> exact ⟨_, rfl, rfl⟩
  · rw [(c4 h0).1, (c4 h0).2, if_neg h0, if_neg h0]
    (repeat' split) <;> exact ⟨_, rfl, rfl⟩
theorem card_ok {N : Nat} {mv : Nat → Int32} {mf : Nat → Nat → Int32} {mi : Nat → Nat} {tv : Nat → Int32} {tf : Nat → Nat → Int32} (x1 : Int32) (h : rM N mv mf mi tv tf) :
    ∃ (r : Int32) (mv1 : Nat → Int32) (mf1 : Nat → Nat → Int32) (tv1 : Nat → Int32) (tf1 : Nat → Nat → Int32), F_DM_card x1 mv mf mi = some (r, mv1, mf1, mi) ∧ F_Mo_card x1 tv tf = some (r, tv1, tf1) ∧ rM N mv1 mf1 mi tv1 tf1 ∧ fT tv tf tv1 tf1 := by
  have h' := h
  obtain ⟨a1, a2, a3, a4, a5, a6, a7, a8, a9, ⟨c, n, e1, e2, e3, e4, e5, e6, e7, e8, e9, e10⟩, a11, a12⟩ := h
  unfold F_DM_card F_Re_add F_Mo_card
  rw [e3, e4, e6]
  by_cases hc : c = 48
  · subst hc
    exact ⟨0, mv, mf, tv, tf, rfl, rfl, h', fT.rf⟩
  · have q1 : ¬ nI c = (48 : Int32) := fun q => hc ((nI_eq (b := 48) (by omega) (by decide)).mp q)
    rw [if_neg q1, if_neg q1, if_neg (nI_in (show c < 48 by omega) (by decide)), if_neg (nI_in (show c - n < 48 by omega) (by decide)), nI_clamp (by omega), nI_clamp (by omega)]
    refine ⟨1, _, _, _, _, rfl, rfl, ?_, ?_⟩
    · refine ⟨a1, a2, a3, a4, a5, a6, rWd_of a7 (fun k _ hk => va_up_ne _ _ (by omega)), a8, a9, ?_, a11, a12⟩
      refine ⟨c + 1, n, by omega, by omega, nI_1 c, nI_1 c, e5, ?_, ?_, ?_, e9, ?_⟩
      · show nI (c - n) + 1 = _
        rw [nI_1]
        congr 1
        omega
      · intro j hj
        show sh (upd (mf 9) c x1.toInt16.toInt32 j)
        by_cases hjc : j = c
        · subst hjc; rw [pk_us]; exact sh_mk x1
        · rw [pk_un hjc]; exact e7 j (by omega)
      · intro j hj
        show upd (tf 21) (c - n) x1.toInt16.toInt32 j = upd (mf 9) c x1.toInt16.toInt32 (n + j)
        by_cases hjc : j = c - n
        · subst hjc; rw [pk_us, show n + (c - n) = c by omega, pk_us]
        · rw [pk_un hjc, pk_un (by omega)]; exact e8 j (by omega)
      · rcases e10 with e10 | ⟨f1, F, n0, f2, f3, f4, f5, f6, f7, f8⟩
        · exact Or.inl e10
        · refine Or.inr ⟨f1, F, n0, f2, f3, f4, f5, f6, ?_, f8⟩
          intro j hj
          show tf 22 j = upd (mf 9) c x1.toInt16.toInt32 (n0 + j)
          rw [pk_un (by omega)]
          exact f7 j hj
    · refine ⟨fun k hk => ?_, fun k hk => va_up_ne _ _ (by omega)⟩
      rw [va_up_ne _ _ (by omega), va_up_ne _ _ (by omega)]
