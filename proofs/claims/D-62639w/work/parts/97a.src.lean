theorem at6 {v : Nat → Int32} {f : Nat → Nat → Int32} {w : Nat → Nat} (h : sh (f 6 0)) : F_Li_at_6 0 v f w = some (f 6 0) := by
  show (if (f 6 0).toInt16.toInt32 = f 6 0 then some (f 6 0) else none) = _
  rw [if_pos h]
theorem at7 {v : Nat → Int32} {f : Nat → Nat → Int32} {w : Nat → Nat} (h : sh (f 7 0)) : F_Li_at_7 0 v f w = some (f 7 0) := by
  show (if (f 7 0).toInt16.toInt32 = f 7 0 then some (f 7 0) else none) = _
  rw [if_pos h]
theorem ln_ix {N k n : Nat} (hN : N ≤ 1100000) (h0 : 0 < n) (hn : n < 100) : nI N - nI N / nI n * nI n = nI (N % n) := pk_rem (by omega) h0 (by omega)
theorem src_2 {N : Nat} {mv : Nat → Int32} {mf : Nat → Nat → Int32} {mi : Nat → Nat} {tv : Nat → Int32} {tf : Nat → Nat → Int32} (hN : N ≤ 1100000) (h2 : tv 2 = nI N) (h : rWd mf (tf 1)) : ∃ x, sh x ∧ F_Pr_word_2 (nI N) mv mf mi = some x ∧ F_Mo_get (nI 2) tv tf = some x := by
  have hl : ln 2 (N % 32) := by unfold ln; omega
  obtain ⟨b1, b2⟩ := h 2 (N % 32) hl
  have e : (nI N - nI N / (32 : Int32) * (32 : Int32)) = nI (N % 32) := pk_rem (d := 32) (by omega) (by decide) (by decide)
  refine ⟨mf 2 (N % 32), b2, ?_, ?_⟩
  · unfold F_Pr_word_2 F_Li_at_2
    rw [e, if_neg (nI_in (Nat.mod_lt _ (by decide)) (by decide)), nI_clamp (by omega), if_pos b2, Option.bind_some, if_pos b2]
  · show (if ((32 : Int32) * (nI 2 - 2) + (tv 2 - tv 2 / (32 : Int32) * (32 : Int32))) < 0 ∨ 132 ≤ ((32 : Int32) * (nI 2 - 2) + (tv 2 - tv 2 / (32 : Int32) * (32 : Int32))).toNatClampNeg then none else if ((tf 1) ((32 : Int32) * (nI 2 - 2) + (tv 2 - tv 2 / (32 : Int32) * (32 : Int32))).toNatClampNeg).toInt16.toInt32 = ((tf 1) ((32 : Int32) * (nI 2 - 2) + (tv 2 - tv 2 / (32 : Int32) * (32 : Int32))).toNatClampNeg) then some ((tf 1) ((32 : Int32) * (nI 2 - 2) + (tv 2 - tv 2 / (32 : Int32) * (32 : Int32))).toNatClampNeg) else none) = _
    have e2 : (32 : Int32) * (nI 2 - 2) + (nI N - nI N / (32 : Int32) * (32 : Int32)) = nI (ad 2 (N % 32)) := by
      rw [e, show (32 : Int32) * (nI 2 - 2) = nI 0 from rfl, nI_add]
      rfl
    have ha := ad_lt hl
    rw [h2, e2, if_neg (nI_in ha (by decide)), nI_clamp (by omega), b1, if_pos b2]
theorem src_3 {N : Nat} {mv : Nat → Int32} {mf : Nat → Nat → Int32} {mi : Nat → Nat} {tv : Nat → Int32} {tf : Nat → Nat → Int32} (hN : N ≤ 1100000) (h2 : tv 2 = nI N) (h : rWd mf (tf 1)) : ∃ x, sh x ∧ F_Pr_word_3 (nI N) mv mf mi = some x ∧ F_Mo_get (nI 3) tv tf = some x := by
  have hl : ln 3 (N % 32) := by unfold ln; omega
  obtain ⟨b1, b2⟩ := h 3 (N % 32) hl
  have e : (nI N - nI N / (32 : Int32) * (32 : Int32)) = nI (N % 32) := pk_rem (d := 32) (by omega) (by decide) (by decide)
  refine ⟨mf 3 (N % 32), b2, ?_, ?_⟩
  · unfold F_Pr_word_3 F_Li_at_3
    rw [e, if_neg (nI_in (Nat.mod_lt _ (by decide)) (by decide)), nI_clamp (by omega), if_pos b2, Option.bind_some, if_pos b2]
  · show (if ((32 : Int32) * (nI 3 - 2) + (tv 2 - tv 2 / (32 : Int32) * (32 : Int32))) < 0 ∨ 132 ≤ ((32 : Int32) * (nI 3 - 2) + (tv 2 - tv 2 / (32 : Int32) * (32 : Int32))).toNatClampNeg then none else if ((tf 1) ((32 : Int32) * (nI 3 - 2) + (tv 2 - tv 2 / (32 : Int32) * (32 : Int32))).toNatClampNeg).toInt16.toInt32 = ((tf 1) ((32 : Int32) * (nI 3 - 2) + (tv 2 - tv 2 / (32 : Int32) * (32 : Int32))).toNatClampNeg) then some ((tf 1) ((32 : Int32) * (nI 3 - 2) + (tv 2 - tv 2 / (32 : Int32) * (32 : Int32))).toNatClampNeg) else none) = _
    have e2 : (32 : Int32) * (nI 3 - 2) + (nI N - nI N / (32 : Int32) * (32 : Int32)) = nI (ad 3 (N % 32)) := by
      rw [e, show (32 : Int32) * (nI 3 - 2) = nI 32 from rfl, nI_add]
      rfl
    have ha := ad_lt hl
    rw [h2, e2, if_neg (nI_in ha (by decide)), nI_clamp (by omega), b1, if_pos b2]
theorem src_4 {N : Nat} {mv : Nat → Int32} {mf : Nat → Nat → Int32} {mi : Nat → Nat} {tv : Nat → Int32} {tf : Nat → Nat → Int32} (hN : N ≤ 1100000) (h2 : tv 2 = nI N) (h : rWd mf (tf 1)) : ∃ x, sh x ∧ F_Pr_word_4 (nI N) mv mf mi = some x ∧ F_Mo_get (nI 4) tv tf = some x := by
  have hl : ln 4 (N % 32) := by unfold ln; omega
  obtain ⟨b1, b2⟩ := h 4 (N % 32) hl
  have e : (nI N - nI N / (32 : Int32) * (32 : Int32)) = nI (N % 32) := pk_rem (d := 32) (by omega) (by decide) (by decide)
  refine ⟨mf 4 (N % 32), b2, ?_, ?_⟩
  · unfold F_Pr_word_4 F_Li_at_4
    rw [e, if_neg (nI_in (Nat.mod_lt _ (by decide)) (by decide)), nI_clamp (by omega), if_pos b2, Option.bind_some, if_pos b2]
  · show (if ((32 : Int32) * (nI 4 - 2) + (tv 2 - tv 2 / (32 : Int32) * (32 : Int32))) < 0 ∨ 132 ≤ ((32 : Int32) * (nI 4 - 2) + (tv 2 - tv 2 / (32 : Int32) * (32 : Int32))).toNatClampNeg then none else if ((tf 1) ((32 : Int32) * (nI 4 - 2) + (tv 2 - tv 2 / (32 : Int32) * (32 : Int32))).toNatClampNeg).toInt16.toInt32 = ((tf 1) ((32 : Int32) * (nI 4 - 2) + (tv 2 - tv 2 / (32 : Int32) * (32 : Int32))).toNatClampNeg) then some ((tf 1) ((32 : Int32) * (nI 4 - 2) + (tv 2 - tv 2 / (32 : Int32) * (32 : Int32))).toNatClampNeg) else none) = _
    have e2 : (32 : Int32) * (nI 4 - 2) + (nI N - nI N / (32 : Int32) * (32 : Int32)) = nI (ad 4 (N % 32)) := by
      rw [e, show (32 : Int32) * (nI 4 - 2) = nI 64 from rfl, nI_add]
      rfl
    have ha := ad_lt hl
    rw [h2, e2, if_neg (nI_in ha (by decide)), nI_clamp (by omega), b1, if_pos b2]
theorem src_5 {N : Nat} {mv : Nat → Int32} {mf : Nat → Nat → Int32} {mi : Nat → Nat} {tv : Nat → Int32} {tf : Nat → Nat → Int32} (hN : N ≤ 1100000) (h2 : tv 2 = nI N) (h : rWd mf (tf 1)) : ∃ x, sh x ∧ F_Pr_word_5 (nI N) mv mf mi = some x ∧ F_Mo_get (nI 5) tv tf = some x := by
  have hl : ln 5 (N % 32) := by unfold ln; omega
  obtain ⟨b1, b2⟩ := h 5 (N % 32) hl
  have e : (nI N - nI N / (32 : Int32) * (32 : Int32)) = nI (N % 32) := pk_rem (d := 32) (by omega) (by decide) (by decide)
  refine ⟨mf 5 (N % 32), b2, ?_, ?_⟩
  · unfold F_Pr_word_5 F_Li_at_5
    rw [e, if_neg (nI_in (Nat.mod_lt _ (by decide)) (by decide)), nI_clamp (by omega), if_pos b2, Option.bind_some, if_pos b2]
  · show (if ((32 : Int32) * (nI 5 - 2) + (tv 2 - tv 2 / (32 : Int32) * (32 : Int32))) < 0 ∨ 132 ≤ ((32 : Int32) * (nI 5 - 2) + (tv 2 - tv 2 / (32 : Int32) * (32 : Int32))).toNatClampNeg then none else if ((tf 1) ((32 : Int32) * (nI 5 - 2) + (tv 2 - tv 2 / (32 : Int32) * (32 : Int32))).toNatClampNeg).toInt16.toInt32 = ((tf 1) ((32 : Int32) * (nI 5 - 2) + (tv 2 - tv 2 / (32 : Int32) * (32 : Int32))).toNatClampNeg) then some ((tf 1) ((32 : Int32) * (nI 5 - 2) + (tv 2 - tv 2 / (32 : Int32) * (32 : Int32))).toNatClampNeg) else none) = _
    have e2 : (32 : Int32) * (nI 5 - 2) + (nI N - nI N / (32 : Int32) * (32 : Int32)) = nI (ad 5 (N % 32)) := by
      rw [e, show (32 : Int32) * (nI 5 - 2) = nI 96 from rfl, nI_add]
      rfl
    have ha := ad_lt hl
    rw [h2, e2, if_neg (nI_in ha (by decide)), nI_clamp (by omega), b1, if_pos b2]
theorem src_6 {N : Nat} {mv : Nat → Int32} {mf : Nat → Nat → Int32} {mi : Nat → Nat} {tv : Nat → Int32} {tf : Nat → Nat → Int32} (hN : N ≤ 1100000) (h2 : tv 2 = nI N) (h : rWd mf (tf 1)) : ∃ x, sh x ∧ F_Pr_word_6 (nI N) mv mf mi = some x ∧ F_Mo_get (nI 6) tv tf = some x := by
  have hl : ln 6 (N % 1) := by unfold ln; omega
  obtain ⟨b1, b2⟩ := h 6 (N % 1) hl
  have e : (nI N - nI N / (1 : Int32) * (1 : Int32)) = nI (N % 1) := pk_rem (d := 1) (by omega) (by decide) (by decide)
  refine ⟨mf 6 (N % 1), b2, ?_, ?_⟩
  · unfold F_Pr_word_6 F_Li_at_6
    rw [e, if_neg (nI_in (Nat.mod_lt _ (by decide)) (by decide)), nI_clamp (by omega), if_pos b2, Option.bind_some, if_pos b2]
  · have hz : N % 1 = 0 := Nat.mod_one N
    rw [hz] at b1 b2 ⊢
    show (if (tf 1 128).toInt16.toInt32 = tf 1 128 then some (tf 1 128) else none) = _
    have b1 : tf 1 128 = mf 6 0 := b1
    rw [b1, if_pos b2]
theorem src_7 {N : Nat} {mv : Nat → Int32} {mf : Nat → Nat → Int32} {mi : Nat → Nat} {tv : Nat → Int32} {tf : Nat → Nat → Int32} (hN : N ≤ 1100000) (h2 : tv 2 = nI N) (h : rWd mf (tf 1)) : ∃ x, sh x ∧ F_Pr_word_7 (nI N) mv mf mi = some x ∧ F_Mo_get (nI 7) tv tf = some x := by
  have hl : ln 7 (N % 1) := by unfold ln; omega
  obtain ⟨b1, b2⟩ := h 7 (N % 1) hl
  have e : (nI N - nI N / (1 : Int32) * (1 : Int32)) = nI (N % 1) := pk_rem (d := 1) (by omega) (by decide) (by decide)
  refine ⟨mf 7 (N % 1), b2, ?_, ?_⟩
  · unfold F_Pr_word_7 F_Li_at_7
    rw [e, if_neg (nI_in (Nat.mod_lt _ (by decide)) (by decide)), nI_clamp (by omega), if_pos b2, Option.bind_some, if_pos b2]
  · have hz : N % 1 = 0 := Nat.mod_one N
    rw [hz] at b1 b2 ⊢
    show (if (tf 1 129).toInt16.toInt32 = tf 1 129 then some (tf 1 129) else none) = _
    have b1 : tf 1 129 = mf 7 0 := b1
    rw [b1, if_pos b2]
theorem src_8 {N : Nat} {mv : Nat → Int32} {mf : Nat → Nat → Int32} {mi : Nat → Nat} {tv : Nat → Int32} {tf : Nat → Nat → Int32} (hN : N ≤ 1100000) (h2 : tv 2 = nI N) (h : rWd mf (tf 1)) : ∃ x, sh x ∧ F_Pr_word_8 (nI N) mv mf mi = some x ∧ F_Mo_get (nI 8) tv tf = some x := by
  have hl : ln 8 (N % 2) := by unfold ln; omega
  obtain ⟨b1, b2⟩ := h 8 (N % 2) hl
  have e : (nI N - nI N / (2 : Int32) * (2 : Int32)) = nI (N % 2) := pk_rem (d := 2) (by omega) (by decide) (by decide)
  refine ⟨mf 8 (N % 2), b2, ?_, ?_⟩
  · unfold F_Pr_word_8 F_Li_at_8
    rw [e, if_neg (nI_in (Nat.mod_lt _ (by decide)) (by decide)), nI_clamp (by omega), if_pos b2, Option.bind_some, if_pos b2]
  · show (if ((130 : Int32) + (tv 2 - tv 2 / (2 : Int32) * (2 : Int32))) < 0 ∨ 132 ≤ ((130 : Int32) + (tv 2 - tv 2 / (2 : Int32) * (2 : Int32))).toNatClampNeg then none else if ((tf 1) ((130 : Int32) + (tv 2 - tv 2 / (2 : Int32) * (2 : Int32))).toNatClampNeg).toInt16.toInt32 = ((tf 1) ((130 : Int32) + (tv 2 - tv 2 / (2 : Int32) * (2 : Int32))).toNatClampNeg) then some ((tf 1) ((130 : Int32) + (tv 2 - tv 2 / (2 : Int32) * (2 : Int32))).toNatClampNeg) else none) = _
    have e2 : (130 : Int32) + (nI N - nI N / (2 : Int32) * (2 : Int32)) = nI (ad 8 (N % 2)) := by
      rw [e, show (130 : Int32) = nI 130 from rfl, nI_add]
      rfl
    have ha := ad_lt hl
    rw [h2, e2, if_neg (nI_in ha (by decide)), nI_clamp (by omega), b1, if_pos b2]
theorem src_0 {N : Nat} {mv : Nat → Int32} {mf : Nat → Nat → Int32} {mi : Nat → Nat} {tv : Nat → Int32} {tf : Nat → Nat → Int32} (h2 : tv 2 = nI N) (h : rWd mf (tf 1)) : ∃ x, sh x ∧ F_Rk_word_0 (nI N) mv mf mi = some (x, mv, mf, mi) ∧ F_Mo_get (nI 0) tv tf = some x := by
  obtain ⟨b1, b2⟩ := h 6 0 (by unfold ln; omega)
  obtain ⟨c1, c2⟩ := h 7 0 (by unfold ln; omega)
  have b1 : tf 1 128 = mf 6 0 := b1
  have c1 : tf 1 129 = mf 7 0 := c1
  refine ⟨0, by decide, ?_, ?_⟩
  · unfold F_Rk_word_0
    rw [at6 b2, Option.bind_some]
  · rfl
theorem src_1 {N : Nat} {mv : Nat → Int32} {mf : Nat → Nat → Int32} {mi : Nat → Nat} {tv : Nat → Int32} {tf : Nat → Nat → Int32} (h2 : tv 2 = nI N) (h : rWd mf (tf 1)) : ∃ x, sh x ∧ F_Rk_word_1 (nI N) mv mf mi = some (x, mv, mf, mi) ∧ F_Mo_get (nI 1) tv tf = some x := by
  obtain ⟨b1, b2⟩ := h 6 0 (by unfold ln; omega)
  obtain ⟨c1, c2⟩ := h 7 0 (by unfold ln; omega)
  have b1 : tf 1 128 = mf 6 0 := b1
  have c1 : tf 1 129 = mf 7 0 := c1
  refine ⟨1, by decide, ?_, ?_⟩
  · unfold F_Rk_word_1
    rw [at6 b2, Option.bind_some]
  · rfl
theorem src_9 {N : Nat} {mv : Nat → Int32} {mf : Nat → Nat → Int32} {mi : Nat → Nat} {tv : Nat → Int32} {tf : Nat → Nat → Int32} (h2 : tv 2 = nI N) (h : rWd mf (tf 1)) : ∃ x, sh x ∧ F_Rk_word_9 (nI N) mv mf mi = some (x, mv, mf, mi) ∧ F_Mo_get (nI 9) tv tf = some x := by
  obtain ⟨b1, b2⟩ := h 6 0 (by unfold ln; omega)
  obtain ⟨c1, c2⟩ := h 7 0 (by unfold ln; omega)
  have b1 : tf 1 128 = mf 6 0 := b1
  have c1 : tf 1 129 = mf 7 0 := c1
  refine ⟨(mf 6 0 &&& mf 7 0).toInt16.toInt32, sh_mk _, ?_, ?_⟩
  · unfold F_Rk_word_9
    rw [at6 b2, Option.bind_some, at7 c2, Option.bind_some]
  · show some (tf 1 128 &&& tf 1 129).toInt16.toInt32 = _
    rw [b1, c1]
theorem src_10 {N : Nat} {mv : Nat → Int32} {mf : Nat → Nat → Int32} {mi : Nat → Nat} {tv : Nat → Int32} {tf : Nat → Nat → Int32} (h2 : tv 2 = nI N) (h : rWd mf (tf 1)) : ∃ x, sh x ∧ F_Rk_word_10 (nI N) mv mf mi = some (x, mv, mf, mi) ∧ F_Mo_get (nI 10) tv tf = some x := by
  obtain ⟨b1, b2⟩ := h 6 0 (by unfold ln; omega)
  obtain ⟨c1, c2⟩ := h 7 0 (by unfold ln; omega)
  have b1 : tf 1 128 = mf 6 0 := b1
  have c1 : tf 1 129 = mf 7 0 := c1
  refine ⟨(mf 6 0 ^^^ mf 7 0).toInt16.toInt32, sh_mk _, ?_, ?_⟩
  · unfold F_Rk_word_10
    rw [at6 b2, Option.bind_some, at7 c2, Option.bind_some]
  · show some (tf 1 128 ^^^ tf 1 129).toInt16.toInt32 = _
    rw [b1, c1]
theorem src_11 {N : Nat} {mv : Nat → Int32} {mf : Nat → Nat → Int32} {mi : Nat → Nat} {tv : Nat → Int32} {tf : Nat → Nat → Int32} (h2 : tv 2 = nI N) (h : rWd mf (tf 1)) : ∃ x, sh x ∧ F_Rk_word_11 (nI N) mv mf mi = some (x, mv, mf, mi) ∧ F_Mo_get (nI 11) tv tf = some x := by
  obtain ⟨b1, b2⟩ := h 6 0 (by unfold ln; omega)
  obtain ⟨c1, c2⟩ := h 7 0 (by unfold ln; omega)
  have b1 : tf 1 128 = mf 6 0 := b1
  have c1 : tf 1 129 = mf 7 0 := c1
  refine ⟨-1, by decide, ?_, ?_⟩
  · unfold F_Rk_word_11
    rw [at6 b2, Option.bind_some]
  · rfl
theorem src_12 {N : Nat} {mv : Nat → Int32} {mf : Nat → Nat → Int32} {mi : Nat → Nat} {tv : Nat → Int32} {tf : Nat → Nat → Int32} (h2 : tv 2 = nI N) (h : rWd mf (tf 1)) : ∃ x, sh x ∧ F_Rk_word_12 (nI N) mv mf mi = some (x, mv, mf, mi) ∧ F_Mo_get (nI 12) tv tf = some x := by
  obtain ⟨b1, b2⟩ := h 6 0 (by unfold ln; omega)
  obtain ⟨c1, c2⟩ := h 7 0 (by unfold ln; omega)
  have b1 : tf 1 128 = mf 6 0 := b1
  have c1 : tf 1 129 = mf 7 0 := c1
  refine ⟨(mf 6 0 >>> ((1 : Int32) &&& 31)).toInt16.toInt32, sh_mk _, ?_, ?_⟩
  · unfold F_Rk_word_12
    rw [at6 b2, Option.bind_some]
  · show some (tf 1 128 >>> ((1 : Int32) &&& 31)).toInt16.toInt32 = _
    rw [b1]
theorem src_14 {N : Nat} {mv : Nat → Int32} {mf : Nat → Nat → Int32} {mi : Nat → Nat} {tv : Nat → Int32} {tf : Nat → Nat → Int32} (h2 : tv 2 = nI N) (h : rWd mf (tf 1)) : ∃ x, sh x ∧ F_Rk_word_14 (nI N) mv mf mi = some (x, mv, mf, mi) ∧ F_Mo_get (nI 14) tv tf = some x := by
  obtain ⟨b1, b2⟩ := h 6 0 (by unfold ln; omega)
  obtain ⟨c1, c2⟩ := h 7 0 (by unfold ln; omega)
  have b1 : tf 1 128 = mf 6 0 := b1
  have c1 : tf 1 129 = mf 7 0 := c1
  refine ⟨(mf 6 0 ^^^ (-1)).toInt16.toInt32, sh_mk _, ?_, ?_⟩
  · unfold F_Rk_word_14
    rw [at6 b2, Option.bind_some]
  · show some (tf 1 128 ^^^ (-1)).toInt16.toInt32 = _
    rw [b1]
theorem src_15 {N : Nat} {mv : Nat → Int32} {mf : Nat → Nat → Int32} {mi : Nat → Nat} {tv : Nat → Int32} {tf : Nat → Nat → Int32} (h2 : tv 2 = nI N) (h : rWd mf (tf 1)) : ∃ x, sh x ∧ F_Rk_word_15 (nI N) mv mf mi = some (x, mv, mf, mi) ∧ F_Mo_get (nI 15) tv tf = some x := by
  obtain ⟨b1, b2⟩ := h 6 0 (by unfold ln; omega)
  obtain ⟨c1, c2⟩ := h 7 0 (by unfold ln; omega)
  have b1 : tf 1 128 = mf 6 0 := b1
  have c1 : tf 1 129 = mf 7 0 := c1
  refine ⟨(nI N).toInt16.toInt32, sh_mk _, ?_, ?_⟩
  · unfold F_Rk_word_15
    rw [at6 b2, Option.bind_some]
  · show some (tv 2).toInt16.toInt32 = _
    rw [h2]
/-- source 13: the reader -/
theorem src_13 {N : Nat} {mv : Nat → Int32} {mf : Nat → Nat → Int32} {mi : Nat → Nat} {tv : Nat → Int32} {tf : Nat → Nat → Int32} {R L : Int32} (hN : N ≤ 1100000) (h : rK rT' N mv mf mi tv tf) (hR : rRow N R L (mv 44) (mv 45)) :
    ∃ (x : Int32) (mv1 : Nat → Int32) (s : Int32), sh x ∧ F_Rk_word_13 (nI N) mv mf mi = some (x, mv1, mf, mi) ∧ F_Mo_get (nI 13) tv tf = some x ∧ ((R < 0 ∧ s = tv 24) ∨ (¬ R < 0 ∧ s = 1)) ∧ rK rT' N mv1 mf mi (va_up tv 24 s) tf ∧ ∀ k, k ≠ 46 → mv1 k = mv k := by
  have h' := h
  obtain ⟨a1, a2, a3, a4, a5, a6, a7, a8, a10, a11, a12⟩ := h
  obtain ⟨b1, b2⟩ := a7 6 0 (by unfold ln; omega)
  obtain ⟨R', r1, r2, r3⟩ := row_sp (mi := mi) hN a2 a10
  obtain ⟨c, n, e1, e2, e3, e4, e5, e6, e7, e8, e9, e10⟩ := a10
  have g13 : F_Mo_get (nI 13) tv tf = (Option.bind (F_Mo_row tv tf) (fun z1 => (if (0 : Int32) ≤ z1 then (Option.bind (F_Mo_row tv tf) (fun z2 => (if z2 < 0 ∨ 12 ≤ z2.toNatClampNeg then none else (if ((tf 22) z2.toNatClampNeg).toInt16.toInt32 = ((tf 22) z2.toNatClampNeg) then (some ((tf 22) z2.toNatClampNeg)) else none)))) else (some (0 : Int32))))) := rfl
  rcases r3 with ⟨rfl, r4⟩ | ⟨r4, F, r, p, r5, r6, r7, r8, rfl, r9⟩
  · have hR1 : R = -1 := by
      rcases hR with ⟨q, _⟩ | ⟨q, F, r, p, q1, q2, q3, q4, _⟩
      · exact q
      · rcases r4 with r4 | ⟨F', hF', r4, r5⟩
        · rw [r4] at q; exact absurd q (by decide)
        · have : F' = F := (nI_eq (by omega) (by omega)).mp (r4.symm.trans q1)
          subst this
          have := r5 r q2
          omega
    refine ⟨0, mv, tv 24, by decide, ?_, ?_, Or.inl ⟨by rw [hR1]; decide, rfl⟩, by rw [up_id _ _ _ rfl]; exact h', fun _ _ => rfl⟩
    · unfold F_Rk_word_13 F_Re_take
      rw [at6 b2, Option.bind_some, r2, Option.bind_some, if_neg (by decide), Option.bind_some, if_pos (show (0 : Int32).toInt16.toInt32 = 0 by decide)]
    · rw [g13, r1, Option.bind_some, if_neg (by decide)]
  · have hR1 : R = nI r := by
      rcases hR with ⟨q, q'⟩ | ⟨q, F', r', p', q1, q2, q3, q4, q5, _⟩
      · rcases q' with q' | ⟨F', hF', q1, q2⟩
        · rw [r4] at q'; exact absurd q' (by decide)
        · have : F' = F := (nI_eq (by omega) (by omega)).mp (q1.symm.trans r5)
          subst this
          have := q2 r r6
          omega
      · have : F' = F := (nI_eq (by omega) (by omega)).mp (q1.symm.trans r5)
        subst this
        rw [q5]
        congr 1
        omega
    rcases e10 with ⟨f1, _⟩ | ⟨f1, F', n0, f2, f3, f4, f5, f6, f7, f8⟩
    · rw [f1] at r4; exact absurd r4 (by decide)
    · have : F' = F := (nI_eq (by omega) (by omega)).mp (f3.symm.trans r5)
      subst this
      have hs := e7 (n0 + r) (by omega)
      refine ⟨mf 9 (n0 + r), va_up mv 46 (mv 46 ||| ((1 : Int32) <<< (nI r &&& 31))), 1, hs, ?_, ?_, Or.inr ⟨by rw [hR1]; exact nI_pos (by omega), rfl⟩, ?_, fun k hk => va_up_ne _ _ hk⟩
      · unfold F_Rk_word_13 F_Re_take
        rw [at6 b2, Option.bind_some, r2, Option.bind_some, if_pos (nI_pos' (by omega)), f5, nI_add, if_neg (nI_in (by omega) (by decide)), nI_clamp (by omega), if_pos hs, Option.bind_some, if_pos hs]
      · rw [g13, r1, Option.bind_some, if_pos (nI_pos' (by omega)), Option.bind_some, if_neg (nI_in r6 (by decide)), nI_clamp (by omega), f7 r r6, if_pos hs]
      · refine ⟨a1, a2, a3, a4, a5, a6, a7, a8, ⟨c, n, e1, e2, e3, e4, e5, e6, e7, e8, Or.inr rfl, Or.inr ⟨f1, F', n0, f2, f3, f4, f5, f6, f7, ?_⟩⟩, a11, a12⟩
        intro r' hr'
        refine ⟨fun q => ?_, fun q1 q2 => ?_⟩
        · show bt (mv 46 ||| ((1 : Int32) <<< (nI r &&& 31))) r' = false
          rw [bt_set _ r6 hr', (f8 r' hr').1 q, decide_eq_false (by omega)]
          rfl
        · show bt (mv 46 ||| ((1 : Int32) <<< (nI r &&& 31))) r' = true ↔ (1 : Int32) = 1
          rw [bt_set _ r6 hr', decide_eq_true (show r' = r by omega), Bool.or_true]
          exact ⟨fun _ => rfl, fun _ => rfl⟩
theorem cyc87 {R L s0 x o s : Int32} {v : Nat → Int32} {f : Nat → Nat → Int32} (hc : F_Mo_current v f = some o) (ho : ¬ o < 0) (hg : F_Mo_get (o &&& 15) v f = some x) (h24 : v 24 = 0 ∨ v 24 = 1) (hs : ((R < 0 ∨ ¬ o &&& 15 = 13) ∧ s = v 24) ∨ (¬ R < 0 ∧ o &&& 15 = 13 ∧ s = 1)) : F_Mo_cycle_87 R L s0 v f = F_Mo_cycle_137 R L s0 o x s v f := by
  unfold F_Mo_cycle_87 F_Mo_cycle_136 F_Mo_cycle_132
  rw [hc, Option.bind_some, if_neg ho, hg, Option.bind_some]
  rcases h24 with h | h
  · rw [h, if_pos rfl]
    rcases hs with ⟨h1, h2⟩ | ⟨h1, h2, h3⟩
    · rw [h2, h]
      rcases h1 with h1 | h1
      · rw [if_pos h1]
      · rw [if_neg h1]
        split <;> rfl
    · rw [if_neg h1, if_pos h2, h3]
  · rw [h, if_neg i10]
    rcases hs with ⟨h1, h2⟩ | ⟨h1, h2, h3⟩
    · rw [h2, h]
    · rw [h3]
theorem srcs_0 {N : Nat} {mv : Nat → Int32} {mf : Nat → Nat → Int32} {mi : Nat → Nat} {tv : Nat → Int32} {tf : Nat → Nat → Int32} {R L o : Int32} {q : Nat} (s0 x2 : Int32) (hN : N ≤ 1100000) (h : rK rT' N mv mf mi tv tf) (hR : rRow N R L (mv 44) (mv 45)) (hq : q < 16) (hi : mi 0 = q) (ho : o &&& 15 = nI q) (hz : ¬ o < 0) (hop : F_Wi_open_0 (mv 8) mv mf mi = some 1) (hc : F_Mo_current tv tf = some o) :
    ∃ (x : Int32) (mv1 : Nat → Int32) (s : Int32), F_Ma_move_0 x2 mv mf mi = F_Ma_move_0_25 x2 x mv1 mf mi ∧ F_Mo_cycle_87 R L s0 tv tf = F_Mo_cycle_137 R L s0 o x s tv tf ∧ sh x ∧ (s = 0 ∨ s = 1) ∧ rK rT' N mv1 mf mi (va_up tv 24 s) tf ∧ ∀ k, k ≠ 46 → mv1 k = mv k := by
  have h8 : mv 8 = nI N := h.1
  have h2 : tv 2 = nI N := h.2.1
  have h24 : tv 24 = 0 ∨ tv 24 = 1 := by
    obtain ⟨a1, a2, a3, a4, a5, a6, a7, a8, ⟨c, n, e1, e2, e3, e4, e5, e6, e7, e8, e9, e10⟩, a11, a12⟩ := h
    exact e9
  have hw : rWd mf (tf 1) := h.2.2.2.2.2.2.1
  have hrf : rK rT' N mv mf mi (va_up tv 24 (tv 24)) tf := by rw [up_id _ _ _ rfl]; exact h
  have hcs : q = 0 ∨ q = 1 ∨ q = 2 ∨ q = 3 ∨ q = 4 ∨ q = 5 ∨ q = 6 ∨ q = 7 ∨ q = 8 ∨ q = 9 ∨ q = 10 ∨ q = 11 ∨ q = 12 ∨ q = 13 ∨ q = 14 ∨ q = 15 := by omega
  unfold F_Ma_move_0
  rw [hop, Option.bind_some, if_neg i10, h8, hi]
  rcases hcs with rfl | rfl | rfl | rfl | rfl | rfl | rfl | rfl | rfl | rfl | rfl | rfl | rfl | rfl | rfl | rfl
  · obtain ⟨x, q1, q2, q3⟩ := src_0 (mv := mv) (mi := mi) h2 hw
    exact ⟨x, mv, tv 24, by rw [if_pos rfl, q2, Option.bind_some], cyc87 hc hz (by rw [ho]; exact q3) h24 (Or.inl ⟨Or.inr (by rw [ho]; decide), rfl⟩), q1, h24, hrf, fun _ _ => rfl⟩
  · obtain ⟨x, q1, q2, q3⟩ := src_1 (mv := mv) (mi := mi) h2 hw
    exact ⟨x, mv, tv 24, by rw [if_neg (by decide), if_pos rfl, q2, Option.bind_some], cyc87 hc hz (by rw [ho]; exact q3) h24 (Or.inl ⟨Or.inr (by rw [ho]; decide), rfl⟩), q1, h24, hrf, fun _ _ => rfl⟩
  · obtain ⟨x, q1, q2, q3⟩ := src_2 (mv := mv) (mi := mi) hN h2 hw
    exact ⟨x, mv, tv 24, by rw [if_neg (by decide), if_neg (by decide), if_pos rfl, q2, Option.bind_some], cyc87 hc hz (by rw [ho]; exact q3) h24 (Or.inl ⟨Or.inr (by rw [ho]; decide), rfl⟩), q1, h24, hrf, fun _ _ => rfl⟩
  · obtain ⟨x, q1, q2, q3⟩ := src_3 (mv := mv) (mi := mi) hN h2 hw
    exact ⟨x, mv, tv 24, by rw [if_neg (by decide), if_neg (by decide), if_neg (by decide), if_pos rfl, q2, Option.bind_some], cyc87 hc hz (by rw [ho]; exact q3) h24 (Or.inl ⟨Or.inr (by rw [ho]; decide), rfl⟩), q1, h24, hrf, fun _ _ => rfl⟩
  · obtain ⟨x, q1, q2, q3⟩ := src_4 (mv := mv) (mi := mi) hN h2 hw
    exact ⟨x, mv, tv 24, by rw [if_neg (by decide), if_neg (by decide), if_neg (by decide), if_neg (by decide), if_pos rfl, q2, Option.bind_some], cyc87 hc hz (by rw [ho]; exact q3) h24 (Or.inl ⟨Or.inr (by rw [ho]; decide), rfl⟩), q1, h24, hrf, fun _ _ => rfl⟩
  · obtain ⟨x, q1, q2, q3⟩ := src_5 (mv := mv) (mi := mi) hN h2 hw
    exact ⟨x, mv, tv 24, by rw [if_neg (by decide), if_neg (by decide), if_neg (by decide), if_neg (by decide), if_neg (by decide), if_pos rfl, q2, Option.bind_some], cyc87 hc hz (by rw [ho]; exact q3) h24 (Or.inl ⟨Or.inr (by rw [ho]; decide), rfl⟩), q1, h24, hrf, fun _ _ => rfl⟩
  · obtain ⟨x, q1, q2, q3⟩ := src_6 (mv := mv) (mi := mi) hN h2 hw
    exact ⟨x, mv, tv 24, by rw [if_neg (by decide), if_neg (by decide), if_neg (by decide), if_neg (by decide), if_neg (by decide), if_neg (by decide), if_pos rfl, q2, Option.bind_some], cyc87 hc hz (by rw [ho]; exact q3) h24 (Or.inl ⟨Or.inr (by rw [ho]; decide), rfl⟩), q1, h24, hrf, fun _ _ => rfl⟩
  · obtain ⟨x, q1, q2, q3⟩ := src_7 (mv := mv) (mi := mi) hN h2 hw
    exact ⟨x, mv, tv 24, by rw [if_neg (by decide), if_neg (by decide), if_neg (by decide), if_neg (by decide), if_neg (by decide), if_neg (by decide), if_neg (by decide), if_pos rfl, q2, Option.bind_some], cyc87 hc hz (by rw [ho]; exact q3) h24 (Or.inl ⟨Or.inr (by rw [ho]; decide), rfl⟩), q1, h24, hrf, fun _ _ => rfl⟩
  · obtain ⟨x, q1, q2, q3⟩ := src_8 (mv := mv) (mi := mi) hN h2 hw
    exact ⟨x, mv, tv 24, by rw [if_neg (by decide), if_neg (by decide), if_neg (by decide), if_neg (by decide), if_neg (by decide), if_neg (by decide), if_neg (by decide), if_neg (by decide), if_pos rfl, q2, Option.bind_some], cyc87 hc hz (by rw [ho]; exact q3) h24 (Or.inl ⟨Or.inr (by rw [ho]; decide), rfl⟩), q1, h24, hrf, fun _ _ => rfl⟩
  · obtain ⟨x, q1, q2, q3⟩ := src_9 (mv := mv) (mi := mi) h2 hw
    exact ⟨x, mv, tv 24, by rw [if_neg (by decide), if_neg (by decide), if_neg (by decide), if_neg (by decide), if_neg (by decide), if_neg (by decide), if_neg (by decide), if_neg (by decide), if_neg (by decide), if_pos rfl, q2, Option.bind_some], cyc87 hc hz (by rw [ho]; exact q3) h24 (Or.inl ⟨Or.inr (by rw [ho]; decide), rfl⟩), q1, h24, hrf, fun _ _ => rfl⟩
  · obtain ⟨x, q1, q2, q3⟩ := src_10 (mv := mv) (mi := mi) h2 hw
    exact ⟨x, mv, tv 24, by rw [if_neg (by decide), if_neg (by decide), if_neg (by decide), if_neg (by decide), if_neg (by decide), if_neg (by decide), if_neg (by decide), if_neg (by decide), if_neg (by decide), if_neg (by decide), if_pos rfl, q2, Option.bind_some], cyc87 hc hz (by rw [ho]; exact q3) h24 (Or.inl ⟨Or.inr (by rw [ho]; decide), rfl⟩), q1, h24, hrf, fun _ _ => rfl⟩
  · obtain ⟨x, q1, q2, q3⟩ := src_11 (mv := mv) (mi := mi) h2 hw
    exact ⟨x, mv, tv 24, by rw [if_neg (by decide), if_neg (by decide), if_neg (by decide), if_neg (by decide), if_neg (by decide), if_neg (by decide), if_neg (by decide), if_neg (by decide), if_neg (by decide), if_neg (by decide), if_neg (by decide), if_pos rfl, q2, Option.bind_some], cyc87 hc hz (by rw [ho]; exact q3) h24 (Or.inl ⟨Or.inr (by rw [ho]; decide), rfl⟩), q1, h24, hrf, fun _ _ => rfl⟩
  · obtain ⟨x, q1, q2, q3⟩ := src_12 (mv := mv) (mi := mi) h2 hw
    exact ⟨x, mv, tv 24, by rw [if_neg (by decide), if_neg (by decide), if_neg (by decide), if_neg (by decide), if_neg (by decide), if_neg (by decide), if_neg (by decide), if_neg (by decide), if_neg (by decide), if_neg (by decide), if_neg (by decide), if_neg (by decide), if_pos rfl, q2, Option.bind_some], cyc87 hc hz (by rw [ho]; exact q3) h24 (Or.inl ⟨Or.inr (by rw [ho]; decide), rfl⟩), q1, h24, hrf, fun _ _ => rfl⟩
  · obtain ⟨x, mv1, s, q1, q2, q3, q4, q5, q6⟩ := src_13 (L := L) hN h hR
    refine ⟨x, mv1, s, by rw [if_neg (by decide), if_neg (by decide), if_neg (by decide), if_neg (by decide), if_neg (by decide), if_neg (by decide), if_neg (by decide), if_neg (by decide), if_neg (by decide), if_neg (by decide), if_neg (by decide), if_neg (by decide), if_neg (by decide), if_pos rfl, q2, Option.bind_some], cyc87 hc hz (by rw [ho]; exact q3) h24 ?_, q1, ?_, q5, q6⟩
    · rcases q4 with ⟨q4, q7⟩ | ⟨q4, q7⟩
      · exact Or.inl ⟨Or.inl q4, q7⟩
      · exact Or.inr ⟨q4, ho, q7⟩
    · rcases q4 with ⟨q4, q7⟩ | ⟨q4, q7⟩
      · rw [q7]; exact h24
      · exact Or.inr q7
  · obtain ⟨x, q1, q2, q3⟩ := src_14 (mv := mv) (mi := mi) h2 hw
    exact ⟨x, mv, tv 24, by rw [if_neg (by decide), if_neg (by decide), if_neg (by decide), if_neg (by decide), if_neg (by decide), if_neg (by decide), if_neg (by decide), if_neg (by decide), if_neg (by decide), if_neg (by decide), if_neg (by decide), if_neg (by decide), if_neg (by decide), if_neg (by decide), if_pos rfl, q2, Option.bind_some], cyc87 hc hz (by rw [ho]; exact q3) h24 (Or.inl ⟨Or.inr (by rw [ho]; decide), rfl⟩), q1, h24, hrf, fun _ _ => rfl⟩
  · obtain ⟨x, q1, q2, q3⟩ := src_15 (mv := mv) (mi := mi) h2 hw
    exact ⟨x, mv, tv 24, by rw [if_neg (by decide), if_neg (by decide), if_neg (by decide), if_neg (by decide), if_neg (by decide), if_neg (by decide), if_neg (by decide), if_neg (by decide), if_neg (by decide), if_neg (by decide), if_neg (by decide), if_neg (by decide), if_neg (by decide), if_neg (by decide), if_neg (by decide), if_pos rfl, q2, Option.bind_some], cyc87 hc hz (by rw [ho]; exact q3) h24 (Or.inl ⟨Or.inr (by rw [ho]; decide), rfl⟩), q1, h24, hrf, fun _ _ => rfl⟩
theorem srcs_1 {N : Nat} {mv : Nat → Int32} {mf : Nat → Nat → Int32} {mi : Nat → Nat} {tv : Nat → Int32} {tf : Nat → Nat → Int32} {R L o : Int32} {q : Nat} (s0 x2 : Int32) (hN : N ≤ 1100000) (h : rK rT' N mv mf mi tv tf) (hR : rRow N R L (mv 44) (mv 45)) (hq : q < 16) (hi : mi 2 = q) (ho : o &&& 15 = nI q) (hz : ¬ o < 0) (hop : F_Wi_open_1 (mv 8) mv mf mi = some 1) (hc : F_Mo_current tv tf = some o) :
    ∃ (x : Int32) (mv1 : Nat → Int32) (s : Int32), F_Ma_move_1 x2 mv mf mi = F_Ma_move_1_25 x2 x mv1 mf mi ∧ F_Mo_cycle_87 R L s0 tv tf = F_Mo_cycle_137 R L s0 o x s tv tf ∧ sh x ∧ (s = 0 ∨ s = 1) ∧ rK rT' N mv1 mf mi (va_up tv 24 s) tf ∧ ∀ k, k ≠ 46 → mv1 k = mv k := by
  have h8 : mv 8 = nI N := h.1
  have h2 : tv 2 = nI N := h.2.1
  have h24 : tv 24 = 0 ∨ tv 24 = 1 := by
    obtain ⟨a1, a2, a3, a4, a5, a6, a7, a8, ⟨c, n, e1, e2, e3, e4, e5, e6, e7, e8, e9, e10⟩, a11, a12⟩ := h
    exact e9
  have hw : rWd mf (tf 1) := h.2.2.2.2.2.2.1
  have hrf : rK rT' N mv mf mi (va_up tv 24 (tv 24)) tf := by rw [up_id _ _ _ rfl]; exact h
  have hcs : q = 0 ∨ q = 1 ∨ q = 2 ∨ q = 3 ∨ q = 4 ∨ q = 5 ∨ q = 6 ∨ q = 7 ∨ q = 8 ∨ q = 9 ∨ q = 10 ∨ q = 11 ∨ q = 12 ∨ q = 13 ∨ q = 14 ∨ q = 15 := by omega
  unfold F_Ma_move_1
  rw [hop, Option.bind_some, if_neg i10, h8, hi]
  rcases hcs with rfl | rfl | rfl | rfl | rfl | rfl | rfl | rfl | rfl | rfl | rfl | rfl | rfl | rfl | rfl | rfl
  · obtain ⟨x, q1, q2, q3⟩ := src_0 (mv := mv) (mi := mi) h2 hw
    exact ⟨x, mv, tv 24, by rw [if_pos rfl, q2, Option.bind_some], cyc87 hc hz (by rw [ho]; exact q3) h24 (Or.inl ⟨Or.inr (by rw [ho]; decide), rfl⟩), q1, h24, hrf, fun _ _ => rfl⟩
  · obtain ⟨x, q1, q2, q3⟩ := src_1 (mv := mv) (mi := mi) h2 hw
    exact ⟨x, mv, tv 24, by rw [if_neg (by decide), if_pos rfl, q2, Option.bind_some], cyc87 hc hz (by rw [ho]; exact q3) h24 (Or.inl ⟨Or.inr (by rw [ho]; decide), rfl⟩), q1, h24, hrf, fun _ _ => rfl⟩
  · obtain ⟨x, q1, q2, q3⟩ := src_2 (mv := mv) (mi := mi) hN h2 hw
    exact ⟨x, mv, tv 24, by rw [if_neg (by decide), if_neg (by decide), if_pos rfl, q2, Option.bind_some], cyc87 hc hz (by rw [ho]; exact q3) h24 (Or.inl ⟨Or.inr (by rw [ho]; decide), rfl⟩), q1, h24, hrf, fun _ _ => rfl⟩
  · obtain ⟨x, q1, q2, q3⟩ := src_3 (mv := mv) (mi := mi) hN h2 hw
    exact ⟨x, mv, tv 24, by rw [if_neg (by decide), if_neg (by decide), if_neg (by decide), if_pos rfl, q2, Option.bind_some], cyc87 hc hz (by rw [ho]; exact q3) h24 (Or.inl ⟨Or.inr (by rw [ho]; decide), rfl⟩), q1, h24, hrf, fun _ _ => rfl⟩
  · obtain ⟨x, q1, q2, q3⟩ := src_4 (mv := mv) (mi := mi) hN h2 hw
    exact ⟨x, mv, tv 24, by rw [if_neg (by decide), if_neg (by decide), if_neg (by decide), if_neg (by decide), if_pos rfl, q2, Option.bind_some], cyc87 hc hz (by rw [ho]; exact q3) h24 (Or.inl ⟨Or.inr (by rw [ho]; decide), rfl⟩), q1, h24, hrf, fun _ _ => rfl⟩
  · obtain ⟨x, q1, q2, q3⟩ := src_5 (mv := mv) (mi := mi) hN h2 hw
    exact ⟨x, mv, tv 24, by rw [if_neg (by decide), if_neg (by decide), if_neg (by decide), if_neg (by decide), if_neg (by decide), if_pos rfl, q2, Option.bind_some], cyc87 hc hz (by rw [ho]; exact q3) h24 (Or.inl ⟨Or.inr (by rw [ho]; decide), rfl⟩), q1, h24, hrf, fun _ _ => rfl⟩
  · obtain ⟨x, q1, q2, q3⟩ := src_6 (mv := mv) (mi := mi) hN h2 hw
    exact ⟨x, mv, tv 24, by rw [if_neg (by decide), if_neg (by decide), if_neg (by decide), if_neg (by decide), if_neg (by decide), if_neg (by decide), if_pos rfl, q2, Option.bind_some], cyc87 hc hz (by rw [ho]; exact q3) h24 (Or.inl ⟨Or.inr (by rw [ho]; decide), rfl⟩), q1, h24, hrf, fun _ _ => rfl⟩
  · obtain ⟨x, q1, q2, q3⟩ := src_7 (mv := mv) (mi := mi) hN h2 hw
    exact ⟨x, mv, tv 24, by rw [if_neg (by decide), if_neg (by decide), if_neg (by decide), if_neg (by decide), if_neg (by decide), if_neg (by decide), if_neg (by decide), if_pos rfl, q2, Option.bind_some], cyc87 hc hz (by rw [ho]; exact q3) h24 (Or.inl ⟨Or.inr (by rw [ho]; decide), rfl⟩), q1, h24, hrf, fun _ _ => rfl⟩
  · obtain ⟨x, q1, q2, q3⟩ := src_8 (mv := mv) (mi := mi) hN h2 hw
    exact ⟨x, mv, tv 24, by rw [if_neg (by decide), if_neg (by decide), if_neg (by decide), if_neg (by decide), if_neg (by decide), if_neg (by decide), if_neg (by decide), if_neg (by decide), if_pos rfl, q2, Option.bind_some], cyc87 hc hz (by rw [ho]; exact q3) h24 (Or.inl ⟨Or.inr (by rw [ho]; decide), rfl⟩), q1, h24, hrf, fun _ _ => rfl⟩
  · obtain ⟨x, q1, q2, q3⟩ := src_9 (mv := mv) (mi := mi) h2 hw
    exact ⟨x, mv, tv 24, by rw [if_neg (by decide), if_neg (by decide), if_neg (by decide), if_neg (by decide), if_neg (by decide), if_neg (by decide), if_neg (by decide), if_neg (by decide), if_neg (by decide), if_pos rfl, q2, Option.bind_some], cyc87 hc hz (by rw [ho]; exact q3) h24 (Or.inl ⟨Or.inr (by rw [ho]; decide), rfl⟩), q1, h24, hrf, fun _ _ => rfl⟩
  · obtain ⟨x, q1, q2, q3⟩ := src_10 (mv := mv) (mi := mi) h2 hw
    exact ⟨x, mv, tv 24, by rw [if_neg (by decide), if_neg (by decide), if_neg (by decide), if_neg (by decide), if_neg (by decide), if_neg (by decide), if_neg (by decide), if_neg (by decide), if_neg (by decide), if_neg (by decide), if_pos rfl, q2, Option.bind_some], cyc87 hc hz (by rw [ho]; exact q3) h24 (Or.inl ⟨Or.inr (by rw [ho]; decide), rfl⟩), q1, h24, hrf, fun _ _ => rfl⟩
  · obtain ⟨x, q1, q2, q3⟩ := src_11 (mv := mv) (mi := mi) h2 hw
    exact ⟨x, mv, tv 24, by rw [if_neg (by decide), if_neg (by decide), if_neg (by decide), if_neg (by decide), if_neg (by decide), if_neg (by decide), if_neg (by decide), if_neg (by decide), if_neg (by decide), if_neg (by decide), if_neg (by decide), if_pos rfl, q2, Option.bind_some], cyc87 hc hz (by rw [ho]; exact q3) h24 (Or.inl ⟨Or.inr (by rw [ho]; decide), rfl⟩), q1, h24, hrf, fun _ _ => rfl⟩
  · obtain ⟨x, q1, q2, q3⟩ := src_12 (mv := mv) (mi := mi) h2 hw
    exact ⟨x, mv, tv 24, by rw [if_neg (by decide), if_neg (by decide), if_neg (by decide), if_neg (by decide), if_neg (by decide), if_neg (by decide), if_neg (by decide), if_neg (by decide), if_neg (by decide), if_neg (by decide), if_neg (by decide), if_neg (by decide), if_pos rfl, q2, Option.bind_some], cyc87 hc hz (by rw [ho]; exact q3) h24 (Or.inl ⟨Or.inr (by rw [ho]; decide), rfl⟩), q1, h24, hrf, fun _ _ => rfl⟩
  · obtain ⟨x, mv1, s, q1, q2, q3, q4, q5, q6⟩ := src_13 (L := L) hN h hR
    refine ⟨x, mv1, s, by rw [if_neg (by decide), if_neg (by decide), if_neg (by decide), if_neg (by decide), if_neg (by decide), if_neg (by decide), if_neg (by decide), if_neg (by decide), if_neg (by decide), if_neg (by decide), if_neg (by decide), if_neg (by decide), if_neg (by decide), if_pos rfl, q2, Option.bind_some], cyc87 hc hz (by rw [ho]; exact q3) h24 ?_, q1, ?_, q5, q6⟩
    · rcases q4 with ⟨q4, q7⟩ | ⟨q4, q7⟩
      · exact Or.inl ⟨Or.inl q4, q7⟩
      · exact Or.inr ⟨q4, ho, q7⟩
    · rcases q4 with ⟨q4, q7⟩ | ⟨q4, q7⟩
      · rw [q7]; exact h24
      · exact Or.inr q7
  · obtain ⟨x, q1, q2, q3⟩ := src_14 (mv := mv) (mi := mi) h2 hw
    exact ⟨x, mv, tv 24, by rw [if_neg (by decide), if_neg (by decide), if_neg (by decide), if_neg (by decide), if_neg (by decide), if_neg (by decide), if_neg (by decide), if_neg (by decide), if_neg (by decide), if_neg (by decide), if_neg (by decide), if_neg (by decide), if_neg (by decide), if_neg (by decide), if_pos rfl, q2, Option.bind_some], cyc87 hc hz (by rw [ho]; exact q3) h24 (Or.inl ⟨Or.inr (by rw [ho]; decide), rfl⟩), q1, h24, hrf, fun _ _ => rfl⟩
  · obtain ⟨x, q1, q2, q3⟩ := src_15 (mv := mv) (mi := mi) h2 hw
    exact ⟨x, mv, tv 24, by rw [if_neg (by decide), if_neg (by decide), if_neg (by decide), if_neg (by decide), if_neg (by decide), if_neg (by decide), if_neg (by decide), if_neg (by decide), if_neg (by decide), if_neg (by decide), if_neg (by decide), if_neg (by decide), if_neg (by decide), if_neg (by decide), if_neg (by decide), if_pos rfl, q2, Option.bind_some], cyc87 hc hz (by rw [ho]; exact q3) h24 (Or.inl ⟨Or.inr (by rw [ho]; decide), rfl⟩), q1, h24, hrf, fun _ _ => rfl⟩
