def rUb (bg lf bits wk fc : Int32) : Prop := (bg = 0 ∧ rU lf bits wk fc) ∨ (bg = 1 ∧ lf = 16 ∧ wk = 17 ∧ fc = bits.toInt16.toInt32)
/-- within a cycle, with the multiplier and the row -/
def rS (N : Nat) (R L : Int32) (mv : Nat → Int32) (mf : Nat → Nat → Int32) (mi : Nat → Nat) (tv : Nat → Int32) (tf : Nat → Nat → Int32) : Prop :=
  rK rT' N mv mf mi tv tf ∧ rUb (mv 14) (mv 30) (mv 31) (tv 17) (tv 18) ∧ rRow N R L (mv 44) (mv 45)
/-- what a destination does -/
def rD (N : Nat) (R L : Int32) (mv : Nat → Int32) (mi : Nat → Nat) (tv : Nat → Int32) (tf : Nat → Nat → Int32) (mv1 : Nat → Int32) (mf1 : Nat → Nat → Int32) (tv1 : Nat → Int32) (tf1 : Nat → Nat → Int32) : Prop :=
  rS N R L mv1 mf1 mi tv1 tf1 ∧ fT tv tf tv1 tf1 ∧ ∀ k, 50 ≤ k → mv1 k = mv k
theorem dst_0 {N : Nat} {mv : Nat → Int32} {mf : Nat → Nat → Int32} {mi : Nat → Nat} {tv : Nat → Int32} {tf : Nat → Nat → Int32} {R L : Int32} (x : Int32) (h : rS N R L mv mf mi tv tf) : ∃ (mv1 : Nat → Int32) (mf1 : Nat → Nat → Int32) (tv1 : Nat → Int32) (tf1 : Nat → Nat → Int32), F_Do_take_0 (nI N) x mv mf mi = some (mv1, mf1, mi) ∧ F_Mo_put (nI 0) x tv tf = some (tv1, tf1) ∧ rD N R L mv mi tv tf mv1 mf1 tv1 tf1 ∧ mv1 13 = mv 13 :=
  ⟨mv, mf, tv, tf, rfl, rfl, ⟨h, fT.rf, fun _ _ => rfl⟩, rfl⟩
theorem dst_1 {N : Nat} {mv : Nat → Int32} {mf : Nat → Nat → Int32} {mi : Nat → Nat} {tv : Nat → Int32} {tf : Nat → Nat → Int32} {R L : Int32} (x : Int32) (h : rS N R L mv mf mi tv tf) : ∃ (mv1 : Nat → Int32) (mf1 : Nat → Nat → Int32) (tv1 : Nat → Int32) (tf1 : Nat → Nat → Int32), F_Do_take_1 (nI N) x mv mf mi = some (mv1, mf1, mi) ∧ F_Mo_put (nI 1) x tv tf = some (tv1, tf1) ∧ rD N R L mv mi tv tf mv1 mf1 tv1 tf1 ∧ mv1 13 = mv 13 := by
  obtain ⟨⟨a1, a2, a3, a4, a5, a6, a7, a8, a10, a11, a12⟩, hu, hr⟩ := h
  exact ⟨va_up mv 9 0, mf, va_up tv 3 0, tf, rfl, rfl, ⟨⟨⟨a1, a2, a3, rfl, Or.inl rfl, a6, a7, a8, a10, a11, a12⟩, hu, hr⟩, ⟨fun k hk => va_up_ne _ _ (by omega), fun _ _ => rfl⟩, fun k hk => va_up_ne _ _ (by omega)⟩, rfl⟩
theorem dst_2 {N : Nat} {mv : Nat → Int32} {mf : Nat → Nat → Int32} {mi : Nat → Nat} {tv : Nat → Int32} {tf : Nat → Nat → Int32} {R L : Int32} (hN : N ≤ 1100000) (x : Int32) (h : rS N R L mv mf mi tv tf) : ∃ (mv1 : Nat → Int32) (mf1 : Nat → Nat → Int32) (tv1 : Nat → Int32) (tf1 : Nat → Nat → Int32), F_Pr_take_2 (nI N) x mv mf mi = some (mv1, mf1, mi) ∧ F_Mo_put (nI 2) x tv tf = some (tv1, tf1) ∧ rD N R L mv mi tv tf mv1 mf1 tv1 tf1 ∧ mv1 13 = mv 13 := by
  obtain ⟨⟨a1, a2, a3, a4, a5, a6, a7, a8, a10, a11, a12⟩, hu, hr⟩ := h
  have hl : ln 2 (N % 32) := by unfold ln; omega
  have e : nI N - nI N / (32 : Int32) * (32 : Int32) = nI (N % 32) := pk_rem (d := 32) (by omega) (by decide) (by decide)
  have ha := ad_lt hl
  refine ⟨mv, va_up mf 2 (upd (mf 2) (N % 32) x.toInt16.toInt32), tv, va_up tf 1 (upd (tf 1) (ad 2 (N % 32)) x.toInt16.toInt32), ?_, ?_, ⟨⟨⟨a1, a2, a3, a4, a5, a6, rWd_up a7 hl (sh_mk x), a8, a10, a11, a12⟩, hu, hr⟩, ⟨fun _ _ => rfl, fun k hk => va_up_ne _ _ (by omega)⟩, fun k hk => rfl⟩, rfl⟩
  · unfold F_Pr_take_2 F_Li_put_2
    rw [e, if_neg (nI_in (Nat.mod_lt _ (by decide)) (by decide)), nI_clamp (by omega), Option.bind_some]
  · show (if ((32 : Int32) * (nI 2 - 2) + (tv 2 - tv 2 / (32 : Int32) * (32 : Int32))) < 0 ∨ 132 ≤ ((32 : Int32) * (nI 2 - 2) + (tv 2 - tv 2 / (32 : Int32) * (32 : Int32))).toNatClampNeg then none else some (tv, va_up tf 1 (upd (tf 1) ((32 : Int32) * (nI 2 - 2) + (tv 2 - tv 2 / (32 : Int32) * (32 : Int32))).toNatClampNeg x.toInt16.toInt32))) = _
    have e2 : (32 : Int32) * (nI 2 - 2) + (nI N - nI N / (32 : Int32) * (32 : Int32)) = nI (ad 2 (N % 32)) := by
      rw [e, show (32 : Int32) * (nI 2 - 2) = nI 0 from rfl, nI_add]
      rfl
    rw [a2, e2, if_neg (nI_in ha (by decide)), nI_clamp (by omega)]
theorem dst_3 {N : Nat} {mv : Nat → Int32} {mf : Nat → Nat → Int32} {mi : Nat → Nat} {tv : Nat → Int32} {tf : Nat → Nat → Int32} {R L : Int32} (hN : N ≤ 1100000) (x : Int32) (h : rS N R L mv mf mi tv tf) : ∃ (mv1 : Nat → Int32) (mf1 : Nat → Nat → Int32) (tv1 : Nat → Int32) (tf1 : Nat → Nat → Int32), F_Pr_take_3 (nI N) x mv mf mi = some (mv1, mf1, mi) ∧ F_Mo_put (nI 3) x tv tf = some (tv1, tf1) ∧ rD N R L mv mi tv tf mv1 mf1 tv1 tf1 ∧ mv1 13 = mv 13 := by
  obtain ⟨⟨a1, a2, a3, a4, a5, a6, a7, a8, a10, a11, a12⟩, hu, hr⟩ := h
  have hl : ln 3 (N % 32) := by unfold ln; omega
  have e : nI N - nI N / (32 : Int32) * (32 : Int32) = nI (N % 32) := pk_rem (d := 32) (by omega) (by decide) (by decide)
  have ha := ad_lt hl
  refine ⟨mv, va_up mf 3 (upd (mf 3) (N % 32) x.toInt16.toInt32), tv, va_up tf 1 (upd (tf 1) (ad 3 (N % 32)) x.toInt16.toInt32), ?_, ?_, ⟨⟨⟨a1, a2, a3, a4, a5, a6, rWd_up a7 hl (sh_mk x), a8, a10, a11, a12⟩, hu, hr⟩, ⟨fun _ _ => rfl, fun k hk => va_up_ne _ _ (by omega)⟩, fun k hk => rfl⟩, rfl⟩
  · unfold F_Pr_take_3 F_Li_put_3
    rw [e, if_neg (nI_in (Nat.mod_lt _ (by decide)) (by decide)), nI_clamp (by omega), Option.bind_some]
  · show (if ((32 : Int32) * (nI 3 - 2) + (tv 2 - tv 2 / (32 : Int32) * (32 : Int32))) < 0 ∨ 132 ≤ ((32 : Int32) * (nI 3 - 2) + (tv 2 - tv 2 / (32 : Int32) * (32 : Int32))).toNatClampNeg then none else some (tv, va_up tf 1 (upd (tf 1) ((32 : Int32) * (nI 3 - 2) + (tv 2 - tv 2 / (32 : Int32) * (32 : Int32))).toNatClampNeg x.toInt16.toInt32))) = _
    have e2 : (32 : Int32) * (nI 3 - 2) + (nI N - nI N / (32 : Int32) * (32 : Int32)) = nI (ad 3 (N % 32)) := by
      rw [e, show (32 : Int32) * (nI 3 - 2) = nI 32 from rfl, nI_add]
      rfl
    rw [a2, e2, if_neg (nI_in ha (by decide)), nI_clamp (by omega)]
theorem dst_4 {N : Nat} {mv : Nat → Int32} {mf : Nat → Nat → Int32} {mi : Nat → Nat} {tv : Nat → Int32} {tf : Nat → Nat → Int32} {R L : Int32} (hN : N ≤ 1100000) (x : Int32) (h : rS N R L mv mf mi tv tf) : ∃ (mv1 : Nat → Int32) (mf1 : Nat → Nat → Int32) (tv1 : Nat → Int32) (tf1 : Nat → Nat → Int32), F_Pr_take_4 (nI N) x mv mf mi = some (mv1, mf1, mi) ∧ F_Mo_put (nI 4) x tv tf = some (tv1, tf1) ∧ rD N R L mv mi tv tf mv1 mf1 tv1 tf1 ∧ mv1 13 = mv 13 := by
  obtain ⟨⟨a1, a2, a3, a4, a5, a6, a7, a8, a10, a11, a12⟩, hu, hr⟩ := h
  have hl : ln 4 (N % 32) := by unfold ln; omega
  have e : nI N - nI N / (32 : Int32) * (32 : Int32) = nI (N % 32) := pk_rem (d := 32) (by omega) (by decide) (by decide)
  have ha := ad_lt hl
  refine ⟨mv, va_up mf 4 (upd (mf 4) (N % 32) x.toInt16.toInt32), tv, va_up tf 1 (upd (tf 1) (ad 4 (N % 32)) x.toInt16.toInt32), ?_, ?_, ⟨⟨⟨a1, a2, a3, a4, a5, a6, rWd_up a7 hl (sh_mk x), a8, a10, a11, a12⟩, hu, hr⟩, ⟨fun _ _ => rfl, fun k hk => va_up_ne _ _ (by omega)⟩, fun k hk => rfl⟩, rfl⟩
  · unfold F_Pr_take_4 F_Li_put_4
    rw [e, if_neg (nI_in (Nat.mod_lt _ (by decide)) (by decide)), nI_clamp (by omega), Option.bind_some]
  · show (if ((32 : Int32) * (nI 4 - 2) + (tv 2 - tv 2 / (32 : Int32) * (32 : Int32))) < 0 ∨ 132 ≤ ((32 : Int32) * (nI 4 - 2) + (tv 2 - tv 2 / (32 : Int32) * (32 : Int32))).toNatClampNeg then none else some (tv, va_up tf 1 (upd (tf 1) ((32 : Int32) * (nI 4 - 2) + (tv 2 - tv 2 / (32 : Int32) * (32 : Int32))).toNatClampNeg x.toInt16.toInt32))) = _
    have e2 : (32 : Int32) * (nI 4 - 2) + (nI N - nI N / (32 : Int32) * (32 : Int32)) = nI (ad 4 (N % 32)) := by
      rw [e, show (32 : Int32) * (nI 4 - 2) = nI 64 from rfl, nI_add]
      rfl
    rw [a2, e2, if_neg (nI_in ha (by decide)), nI_clamp (by omega)]
theorem dst_5 {N : Nat} {mv : Nat → Int32} {mf : Nat → Nat → Int32} {mi : Nat → Nat} {tv : Nat → Int32} {tf : Nat → Nat → Int32} {R L : Int32} (hN : N ≤ 1100000) (x : Int32) (h : rS N R L mv mf mi tv tf) : ∃ (mv1 : Nat → Int32) (mf1 : Nat → Nat → Int32) (tv1 : Nat → Int32) (tf1 : Nat → Nat → Int32), F_Pr_take_5 (nI N) x mv mf mi = some (mv1, mf1, mi) ∧ F_Mo_put (nI 5) x tv tf = some (tv1, tf1) ∧ rD N R L mv mi tv tf mv1 mf1 tv1 tf1 ∧ mv1 13 = mv 13 := by
  obtain ⟨⟨a1, a2, a3, a4, a5, a6, a7, a8, a10, a11, a12⟩, hu, hr⟩ := h
  have hl : ln 5 (N % 32) := by unfold ln; omega
  have e : nI N - nI N / (32 : Int32) * (32 : Int32) = nI (N % 32) := pk_rem (d := 32) (by omega) (by decide) (by decide)
  have ha := ad_lt hl
  refine ⟨mv, va_up mf 5 (upd (mf 5) (N % 32) x.toInt16.toInt32), tv, va_up tf 1 (upd (tf 1) (ad 5 (N % 32)) x.toInt16.toInt32), ?_, ?_, ⟨⟨⟨a1, a2, a3, a4, a5, a6, rWd_up a7 hl (sh_mk x), a8, a10, a11, a12⟩, hu, hr⟩, ⟨fun _ _ => rfl, fun k hk => va_up_ne _ _ (by omega)⟩, fun k hk => rfl⟩, rfl⟩
  · unfold F_Pr_take_5 F_Li_put_5
    rw [e, if_neg (nI_in (Nat.mod_lt _ (by decide)) (by decide)), nI_clamp (by omega), Option.bind_some]
  · show (if ((32 : Int32) * (nI 5 - 2) + (tv 2 - tv 2 / (32 : Int32) * (32 : Int32))) < 0 ∨ 132 ≤ ((32 : Int32) * (nI 5 - 2) + (tv 2 - tv 2 / (32 : Int32) * (32 : Int32))).toNatClampNeg then none else some (tv, va_up tf 1 (upd (tf 1) ((32 : Int32) * (nI 5 - 2) + (tv 2 - tv 2 / (32 : Int32) * (32 : Int32))).toNatClampNeg x.toInt16.toInt32))) = _
    have e2 : (32 : Int32) * (nI 5 - 2) + (nI N - nI N / (32 : Int32) * (32 : Int32)) = nI (ad 5 (N % 32)) := by
      rw [e, show (32 : Int32) * (nI 5 - 2) = nI 96 from rfl, nI_add]
      rfl
    rw [a2, e2, if_neg (nI_in ha (by decide)), nI_clamp (by omega)]
theorem dst_6 {N : Nat} {mv : Nat → Int32} {mf : Nat → Nat → Int32} {mi : Nat → Nat} {tv : Nat → Int32} {tf : Nat → Nat → Int32} {R L : Int32} (hN : N ≤ 1100000) (x : Int32) (h : rS N R L mv mf mi tv tf) : ∃ (mv1 : Nat → Int32) (mf1 : Nat → Nat → Int32) (tv1 : Nat → Int32) (tf1 : Nat → Nat → Int32), F_Pr_take_6 (nI N) x mv mf mi = some (mv1, mf1, mi) ∧ F_Mo_put (nI 6) x tv tf = some (tv1, tf1) ∧ rD N R L mv mi tv tf mv1 mf1 tv1 tf1 ∧ mv1 13 = mv 13 := by
  obtain ⟨⟨a1, a2, a3, a4, a5, a6, a7, a8, a10, a11, a12⟩, hu, hr⟩ := h
  have hl : ln 6 (N % 1) := by unfold ln; omega
  have e : nI N - nI N / (1 : Int32) * (1 : Int32) = nI (N % 1) := pk_rem (d := 1) (by omega) (by decide) (by decide)
  have ha := ad_lt hl
  refine ⟨mv, va_up mf 6 (upd (mf 6) (N % 1) x.toInt16.toInt32), tv, va_up tf 1 (upd (tf 1) (ad 6 (N % 1)) x.toInt16.toInt32), ?_, ?_, ⟨⟨⟨a1, a2, a3, a4, a5, a6, rWd_up a7 hl (sh_mk x), a8, a10, a11, a12⟩, hu, hr⟩, ⟨fun _ _ => rfl, fun k hk => va_up_ne _ _ (by omega)⟩, fun k hk => rfl⟩, rfl⟩
  · unfold F_Pr_take_6 F_Li_put_6
    rw [e, if_neg (nI_in (Nat.mod_lt _ (by decide)) (by decide)), nI_clamp (by omega), Option.bind_some]
  · rfl
theorem dst_7 {N : Nat} {mv : Nat → Int32} {mf : Nat → Nat → Int32} {mi : Nat → Nat} {tv : Nat → Int32} {tf : Nat → Nat → Int32} {R L : Int32} (hN : N ≤ 1100000) (x : Int32) (h : rS N R L mv mf mi tv tf) : ∃ (mv1 : Nat → Int32) (mf1 : Nat → Nat → Int32) (tv1 : Nat → Int32) (tf1 : Nat → Nat → Int32), F_Pr_take_7 (nI N) x mv mf mi = some (mv1, mf1, mi) ∧ F_Mo_put (nI 7) x tv tf = some (tv1, tf1) ∧ rD N R L mv mi tv tf mv1 mf1 tv1 tf1 ∧ mv1 13 = mv 13 := by
  obtain ⟨⟨a1, a2, a3, a4, a5, a6, a7, a8, a10, a11, a12⟩, hu, hr⟩ := h
  have hl : ln 7 (N % 1) := by unfold ln; omega
  have e : nI N - nI N / (1 : Int32) * (1 : Int32) = nI (N % 1) := pk_rem (d := 1) (by omega) (by decide) (by decide)
  have ha := ad_lt hl
  refine ⟨mv, va_up mf 7 (upd (mf 7) (N % 1) x.toInt16.toInt32), tv, va_up tf 1 (upd (tf 1) (ad 7 (N % 1)) x.toInt16.toInt32), ?_, ?_, ⟨⟨⟨a1, a2, a3, a4, a5, a6, rWd_up a7 hl (sh_mk x), a8, a10, a11, a12⟩, hu, hr⟩, ⟨fun _ _ => rfl, fun k hk => va_up_ne _ _ (by omega)⟩, fun k hk => rfl⟩, rfl⟩
  · unfold F_Pr_take_7 F_Li_put_7
    rw [e, if_neg (nI_in (Nat.mod_lt _ (by decide)) (by decide)), nI_clamp (by omega), Option.bind_some]
  · rfl
theorem dst_8 {N : Nat} {mv : Nat → Int32} {mf : Nat → Nat → Int32} {mi : Nat → Nat} {tv : Nat → Int32} {tf : Nat → Nat → Int32} {R L : Int32} (hN : N ≤ 1100000) (x : Int32) (h : rS N R L mv mf mi tv tf) : ∃ (mv1 : Nat → Int32) (mf1 : Nat → Nat → Int32) (tv1 : Nat → Int32) (tf1 : Nat → Nat → Int32), F_Pr_take_8 (nI N) x mv mf mi = some (mv1, mf1, mi) ∧ F_Mo_put (nI 8) x tv tf = some (tv1, tf1) ∧ rD N R L mv mi tv tf mv1 mf1 tv1 tf1 ∧ mv1 13 = mv 13 := by
  obtain ⟨⟨a1, a2, a3, a4, a5, a6, a7, a8, a10, a11, a12⟩, hu, hr⟩ := h
  have hl : ln 8 (N % 2) := by unfold ln; omega
  have e : nI N - nI N / (2 : Int32) * (2 : Int32) = nI (N % 2) := pk_rem (d := 2) (by omega) (by decide) (by decide)
  have ha := ad_lt hl
  refine ⟨mv, va_up mf 8 (upd (mf 8) (N % 2) x.toInt16.toInt32), tv, va_up tf 1 (upd (tf 1) (ad 8 (N % 2)) x.toInt16.toInt32), ?_, ?_, ⟨⟨⟨a1, a2, a3, a4, a5, a6, rWd_up a7 hl (sh_mk x), a8, a10, a11, a12⟩, hu, hr⟩, ⟨fun _ _ => rfl, fun k hk => va_up_ne _ _ (by omega)⟩, fun k hk => rfl⟩, rfl⟩
  · unfold F_Pr_take_8 F_Li_put_8
    rw [e, if_neg (nI_in (Nat.mod_lt _ (by decide)) (by decide)), nI_clamp (by omega), Option.bind_some]
  · show (if ((130 : Int32) + (tv 2 - tv 2 / (2 : Int32) * (2 : Int32))) < 0 ∨ 132 ≤ ((130 : Int32) + (tv 2 - tv 2 / (2 : Int32) * (2 : Int32))).toNatClampNeg then none else some (tv, va_up tf 1 (upd (tf 1) ((130 : Int32) + (tv 2 - tv 2 / (2 : Int32) * (2 : Int32))).toNatClampNeg x.toInt16.toInt32))) = _
    have e2 : (130 : Int32) + (nI N - nI N / (2 : Int32) * (2 : Int32)) = nI (ad 8 (N % 2)) := by
      rw [e, show (130 : Int32) = nI 130 from rfl, nI_add]
      rfl
    rw [a2, e2, if_neg (nI_in ha (by decide)), nI_clamp (by omega)]
theorem dst_9 {N : Nat} {mv : Nat → Int32} {mf : Nat → Nat → Int32} {mi : Nat → Nat} {tv : Nat → Int32} {tf : Nat → Nat → Int32} {R L : Int32} (x : Int32) (h : rS N R L mv mf mi tv tf) : ∃ (mv1 : Nat → Int32) (mf1 : Nat → Nat → Int32) (tv1 : Nat → Int32) (tf1 : Nat → Nat → Int32), F_Do_take_9 (nI N) x mv mf mi = some (mv1, mf1, mi) ∧ F_Mo_put (nI 9) x tv tf = some (tv1, tf1) ∧ rD N R L mv mi tv tf mv1 mf1 tv1 tf1 ∧ mv1 13 = mv 13 := by
  obtain ⟨⟨a1, a2, a3, a4, a5, a6, a7, a8, a10, a11, a12⟩, hu, hr⟩ := h
  have hl : ln 6 0 := by unfold ln; omega
  obtain ⟨b1, b2⟩ := a7 6 0 hl
  have b1 : tf 1 128 = mf 6 0 := b1
  refine ⟨mv, va_up mf 6 (upd (mf 6) 0 (mf 6 0 + x).toInt16.toInt32.toInt16.toInt32), tv, va_up tf 1 (upd (tf 1) (ad 6 0) (mf 6 0 + x).toInt16.toInt32.toInt16.toInt32), ?_, ?_, ⟨⟨⟨a1, a2, a3, a4, a5, a6, rWd_up a7 hl (sh_mk _), a8, a10, a11, a12⟩, hu, hr⟩, ⟨fun _ _ => rfl, fun k hk => va_up_ne _ _ (by omega)⟩, fun k hk => rfl⟩, rfl⟩
  · unfold F_Do_take_9
    rw [at6 b2, Option.bind_some]
    rfl
  · rw [← b1]
    rfl
theorem dst_10 {N : Nat} {mv : Nat → Int32} {mf : Nat → Nat → Int32} {mi : Nat → Nat} {tv : Nat → Int32} {tf : Nat → Nat → Int32} {R L : Int32} (x : Int32) (h : rS N R L mv mf mi tv tf) : ∃ (mv1 : Nat → Int32) (mf1 : Nat → Nat → Int32) (tv1 : Nat → Int32) (tf1 : Nat → Nat → Int32), F_Do_take_10 (nI N) x mv mf mi = some (mv1, mf1, mi) ∧ F_Mo_put (nI 10) x tv tf = some (tv1, tf1) ∧ rD N R L mv mi tv tf mv1 mf1 tv1 tf1 ∧ mv1 13 = mv 13 := by
  obtain ⟨⟨a1, a2, a3, a4, a5, a6, a7, a8, a10, a11, a12⟩, hu, hr⟩ := h
  have hl : ln 6 0 := by unfold ln; omega
  obtain ⟨b1, b2⟩ := a7 6 0 hl
  have b1 : tf 1 128 = mf 6 0 := b1
  refine ⟨mv, va_up mf 6 (upd (mf 6) 0 (mf 6 0 - x).toInt16.toInt32.toInt16.toInt32), tv, va_up tf 1 (upd (tf 1) (ad 6 0) (mf 6 0 - x).toInt16.toInt32.toInt16.toInt32), ?_, ?_, ⟨⟨⟨a1, a2, a3, a4, a5, a6, rWd_up a7 hl (sh_mk _), a8, a10, a11, a12⟩, hu, hr⟩, ⟨fun _ _ => rfl, fun k hk => va_up_ne _ _ (by omega)⟩, fun k hk => rfl⟩, rfl⟩
  · unfold F_Do_take_10
    rw [at6 b2, Option.bind_some]
    rfl
  · rw [← b1]
    rfl
theorem and_sh (x : Int32) : (x &&& (65535 : Int32)).toInt16.toInt32 = x.toInt16.toInt32 := by
  have h : (x &&& (65535 : Int32)).toInt16 = x.toInt16 := by
    apply Int16.toBitVec_inj.mp
    rw [Int32.toBitVec_toInt16, Int32.toBitVec_toInt16, Int32.toBitVec_and]
    apply BitVec.eq_of_getLsbD_eq
    intro i hi
    have h3 : i < 32 := by omega
    have h4 : ∀ i : Fin 16, (65535 : Int32).toBitVec.getLsbD i.val = true := by decide +kernel
    simp only [BitVec.getLsbD_signExtend, BitVec.getLsbD_and, h4 ⟨i, hi⟩, Bool.and_true, h3, if_true]
  rw [h]
theorem dst_13 {N : Nat} {mv : Nat → Int32} {mf : Nat → Nat → Int32} {mi : Nat → Nat} {tv : Nat → Int32} {tf : Nat → Nat → Int32} {R L : Int32} (x : Int32) (hx : sh x) (h : rS N R L mv mf mi tv tf) : ∃ (mv1 : Nat → Int32) (mf1 : Nat → Nat → Int32) (tv1 : Nat → Int32) (tf1 : Nat → Nat → Int32), F_Do_take_13 (nI N) x mv mf mi = some (mv1, mf1, mi) ∧ F_Mo_put (nI 13) x tv tf = some (tv1, tf1) ∧ rD N R L mv mi tv tf mv1 mf1 tv1 tf1 ∧ mv1 13 = mv 13 := by
  obtain ⟨⟨a1, a2, a3, a4, a5, a6, a7, a8, a10, a11, a12⟩, hu, hr⟩ := h
  have l0 : ln 8 0 := by unfold ln; omega
  have l1 : ln 8 1 := by unfold ln; omega
  have w1 := rWd_up a7 l0 (sh_mk 0)
  have w2 := rWd_up w1 l1 (sh_mk 0)
  refine ⟨va_up (va_up (va_up mv 30 (16 : Int32)) 31 (x &&& (65535 : Int32))) 14 (1 : Int32), _, va_up (va_up tv 17 (17 : Int32)) 18 x, _, rfl, rfl, ⟨⟨⟨a1, a2, a3, a4, a5, a6, w2, a8, a10, a11, a12⟩, Or.inr ⟨rfl, rfl, rfl, ?_⟩, hr⟩, ⟨fun k hk => ?_, fun k hk => ?_⟩, fun k hk => ?_⟩, rfl⟩
  · show x = (x &&& (65535 : Int32)).toInt16.toInt32
    rw [and_sh]
    exact hx.symm
  · rw [va_up_ne _ _ (by omega), va_up_ne _ _ (by omega)]
  · rw [va_up_ne _ _ (by omega), va_up_ne _ _ (by omega)]
  · rw [va_up_ne _ _ (by omega), va_up_ne _ _ (by omega), va_up_ne _ _ (by omega)]
theorem fail_ok {N : Nat} {mv : Nat → Int32} {mf : Nat → Nat → Int32} {mi : Nat → Nat} {tv : Nat → Int32} {tf : Nat → Nat → Int32} {R L : Int32} (x : Int32) (h : rS N R L mv mf mi tv tf) : ∃ (mv1 tv1 : Nat → Int32), F_Ma_fail x mv mf mi = some (mv1, mf, mi) ∧ F_Mo_fail x tv tf = some (tv1, tf) ∧ rD N R L mv mi tv tf mv1 mf tv1 tf ∧ mv1 13 = mv 13 := by
  obtain ⟨⟨a1, a2, a3, a4, a5, a6, a7, a8, a10, a11, a12⟩, hu, hr⟩ := h
  by_cases h0 : mv 10 = 0
  · refine ⟨va_up (va_up mv 10 x) 9 0, va_up (va_up tv 4 x) 3 0, ?_, ?_, ⟨⟨⟨a1, a2, rfl, rfl, Or.inl rfl, a6, a7, a8, a10, a11, a12⟩, hu, hr⟩, ⟨fun k hk => ?_, fun _ _ => rfl⟩, fun k hk => ?_⟩, rfl⟩
    · unfold F_Ma_fail F_Ma_fail_12
      rw [if_pos h0]
    · unfold F_Mo_fail F_Mo_fail_16
      rw [a3, if_pos h0]
    · rw [va_up_ne _ _ (by omega), va_up_ne _ _ (by omega)]
    · rw [va_up_ne _ _ (by omega), va_up_ne _ _ (by omega)]
  · refine ⟨va_up mv 9 0, va_up (va_up tv 4 (mv 10)) 3 0, ?_, ?_, ⟨⟨⟨a1, a2, rfl, rfl, Or.inl rfl, a6, a7, a8, a10, a11, a12⟩, hu, hr⟩, ⟨fun k hk => ?_, fun _ _ => rfl⟩, fun k hk => ?_⟩, rfl⟩
    · unfold F_Ma_fail F_Ma_fail_12
      rw [if_neg h0]
    · unfold F_Mo_fail F_Mo_fail_16
      rw [a3, if_neg h0]
    · rw [va_up_ne _ _ (by omega), va_up_ne _ _ (by omega)]
    · rw [va_up_ne _ _ (by omega)]
theorem dst_15 {N : Nat} {mv : Nat → Int32} {mf : Nat → Nat → Int32} {mi : Nat → Nat} {tv : Nat → Int32} {tf : Nat → Nat → Int32} {R L : Int32} (x : Int32) (h : rS N R L mv mf mi tv tf) : ∃ (mv1 : Nat → Int32) (mf1 : Nat → Nat → Int32) (tv1 : Nat → Int32) (tf1 : Nat → Nat → Int32), F_Do_take_15 (nI N) x mv mf mi = some (mv1, mf1, mi) ∧ F_Mo_put (nI 15) x tv tf = some (tv1, tf1) ∧ rD N R L mv mi tv tf mv1 mf1 tv1 tf1 ∧ mv1 13 = mv 13 := by
  obtain ⟨mvf, tvf, q1, q2, q3, q4⟩ := fail_ok 3 h
  obtain ⟨⟨a1, a2, a3, a4, a5, a6, a7, a8, a10, a11, a12⟩, hu, hr⟩ := h
  obtain ⟨p1, p2, ⟨n, p3, p4, p5⟩, p6⟩ := a11
  have e1 : F_Mo_put (nI 15) x tv tf = Option.bind (F_Mo_press x tv tf) (fun z2 => some (z2.1, z2.2)) := rfl
  have f1 : F_Do_take_15 (nI N) x mv mf mi = Option.bind (F_Ma_punch (nI N) x mv mf mi) (fun z1 => some (z1.1, z1.2.1, z1.2.2)) := rfl
  have e2 : F_Mo_press_23 x tv tf = some (tvf, tf) := by
    unfold F_Mo_press_23
    rw [q2]
    rfl
  have f2 : F_Ma_punch_20 (nI N) x mv mf mi = some (mvf, mf, mi) := by
    unfold F_Ma_punch_20
    rw [q1]
    rfl
  rw [e1, f1]
  unfold F_Mo_press F_Ma_punch
  rw [p1, p2, a2]
  by_cases h6 : nI N - mv 20 < 6
  · have h6' : ¬ 6 ≤ nI N - mv 20 := fun q => Int32.lt_irrefl (Int32.lt_of_lt_of_le h6 q)
    refine ⟨mvf, mf, tvf, tf, ?_, ?_, q3, q4⟩
    · rw [if_pos h6, f2]
      rfl
    · rw [if_neg h6', e2]
      split <;> rfl
  · have h6' : 6 ≤ nI N - mv 20 := Int32.not_lt.mp h6
    rw [if_neg h6, if_pos h6', p4]
    by_cases h60 : n = 60
    · subst h60
      refine ⟨mvf, mf, tvf, tf, ?_, ?_, q3, q4⟩
      · rw [if_pos (show nI 60 = (60 : Int32) from rfl), f2]
        rfl
      · rw [if_pos (show nI 60 = (60 : Int32) from rfl), e2]
        rfl
    · have hne : ¬ nI n = (60 : Int32) := fun q => h60 ((nI_eq (b := 60) (by omega) (by decide)).mp q)
      rw [if_neg hne, if_neg hne, if_neg (nI_in (by omega) (by decide)), if_neg (nI_in (by omega) (by decide)), nI_clamp (by omega), nI_1]
      refine ⟨va_up (va_up mv 19 (nI (n + 1))) 20 (nI N), va_up mf 10 (upd (mf 10) n x.toInt16.toInt32), va_up (va_up tv 25 (nI (n + 1))) 27 (nI N), va_up tf 26 (upd (tf 26) n x.toInt16.toInt32), rfl, rfl, ⟨⟨⟨a1, a2, a3, a4, a5, a6, rWd_of a7 (fun k _ hk => va_up_ne _ _ (by omega)), a8, a10, ⟨rfl, rfl, ⟨n + 1, by omega, rfl, ?_⟩, Or.inr ⟨N, by omega, rfl⟩⟩, a12⟩, hu, hr⟩, ⟨fun k hk => ?_, fun k hk => va_up_ne _ _ (by omega)⟩, fun k hk => ?_⟩, rfl⟩
      · intro j hj
        show upd (tf 26) n x.toInt16.toInt32 j = upd (mf 10) n x.toInt16.toInt32 j ∧ sh (upd (mf 10) n x.toInt16.toInt32 j)
        by_cases hjn : j = n
        · subst hjn
          rw [pk_us, pk_us]
          exact ⟨rfl, sh_mk x⟩
        · rw [pk_un hjn, pk_un hjn]
          exact p5 j (by omega)
      · rw [va_up_ne _ _ (by omega), va_up_ne _ _ (by omega)]
      · rw [va_up_ne _ _ (by omega), va_up_ne _ _ (by omega)]
theorem dst_11 {N : Nat} {mv : Nat → Int32} {mf : Nat → Nat → Int32} {mi : Nat → Nat} {tv : Nat → Int32} {tf : Nat → Nat → Int32} {R L : Int32} (hN : N ≤ 1100000) (x : Int32) (h : rS N R L mv mf mi tv tf) (hv : mv 52 ≠ -1) : ∃ (mv1 : Nat → Int32) (mf1 : Nat → Nat → Int32) (tv1 : Nat → Int32) (tf1 : Nat → Nat → Int32), F_Do_take_11 (nI N) x mv mf mi = some (mv1, mf1, mi) ∧ F_Mo_put (nI 11) x tv tf = some (tv1, tf1) ∧ rD N R L mv mi tv tf mv1 mf1 tv1 tf1 := by
  have h' := h
  obtain ⟨⟨a1, a2, a3, a4, a5, a6, a7, a8, a10, a11, a12⟩, hu, hr⟩ := h
  have e1 : F_Mo_put (nI 11) x tv tf = (if 0 ≤ x then F_Mo_put_215 (nI 11) x 0 tv tf else F_Mo_put_215 (nI 11) x 1 tv tf) := rfl
  have f1 : F_Do_take_11 (nI N) x mv mf mi = (if 0 ≤ x then some (mv, mf, mi) else some (va_up mv 13 1, mf, mi)) := rfl
  rw [e1, f1]
  by_cases hc : 0 ≤ x
  · refine ⟨mv, mf, tv, tf, by rw [if_pos hc], by rw [if_pos hc]; rfl, h', fT.rf, fun _ _ => rfl⟩
  · rw [if_neg hc, if_neg hc]
    unfold F_Mo_put_215 F_Mo_discriminate
    obtain ⟨D, b, l, A, Z, A0, Z0, g1, g2, g3, g4, g5, g6, g7, g8, g9, g10, g11, g12, g13, g14, g15, g16, g17, g18⟩ := a12
    have g12 := g12 hv
    have hb : b = 0 ∨ b = 1 := by omega
    rw [if_neg i10, a2, g12, g4]
    rcases hb with rfl | rfl
    · rw [if_pos (show nI 0 = 0 from rfl), if_pos (nI_lt (show N < D + 0 by omega) (by omega)), Option.bind_some, nI_1]
      refine ⟨_, _, _, _, rfl, rfl, ⟨⟨a1, a2, a3, a4, a5, a6, a7, a8, a10, a11, ?_⟩, hu, hr⟩, ⟨fun k hk => ?_, fun _ _ => rfl⟩, fun k hk => va_up_ne _ _ (by omega)⟩
      · exact ⟨D, 1, l, A, Z, A0, Z0, g1, rfl, by omega, rfl, by omega, g6, g7, g8, g9, g10, fun q => absurd q hv, fun _ => rfl, g13, g14, g15, g16, g17, g18⟩
      · exact (va_up_ne _ _ (by omega)).trans (va_up_ne _ _ (by omega))
    · rw [if_neg (show ¬ nI 1 = 0 by decide), Option.bind_some]
      refine ⟨_, _, _, _, rfl, rfl, ⟨⟨a1, a2, a3, a4, a5, a6, a7, a8, a10, a11, ?_⟩, hu, hr⟩, ⟨fun k hk => rfl, fun _ _ => rfl⟩, fun k hk => va_up_ne _ _ (by omega)⟩
      exact ⟨D, 1, l, A, Z, A0, Z0, g1, rfl, by omega, g4, by omega, g6, g7, g8, g9, g10, fun q => absurd q hv, fun _ => g12, g13, g14, g15, g16, g17, g18⟩
theorem dst_12 {N : Nat} {mv : Nat → Int32} {mf : Nat → Nat → Int32} {mi : Nat → Nat} {tv : Nat → Int32} {tf : Nat → Nat → Int32} {R L : Int32} (hN : N ≤ 1100000) (x : Int32) (h : rS N R L mv mf mi tv tf) (hv : mv 52 ≠ -1) : ∃ (mv1 : Nat → Int32) (mf1 : Nat → Nat → Int32) (tv1 : Nat → Int32) (tf1 : Nat → Nat → Int32), F_Do_take_12 (nI N) x mv mf mi = some (mv1, mf1, mi) ∧ F_Mo_put (nI 12) x tv tf = some (tv1, tf1) ∧ rD N R L mv mi tv tf mv1 mf1 tv1 tf1 := by
  have h' := h
  obtain ⟨⟨a1, a2, a3, a4, a5, a6, a7, a8, a10, a11, a12⟩, hu, hr⟩ := h
  have e1 : F_Mo_put (nI 12) x tv tf = (if x = 0 then F_Mo_put_215 (nI 12) x 0 tv tf else F_Mo_put_215 (nI 12) x 1 tv tf) := rfl
  have f1 : F_Do_take_12 (nI N) x mv mf mi = (if x = 0 then some (mv, mf, mi) else some (va_up mv 13 1, mf, mi)) := rfl
  rw [e1, f1]
  by_cases hc : x = 0
  · refine ⟨mv, mf, tv, tf, by rw [if_pos hc], by rw [if_pos hc]; rfl, h', fT.rf, fun _ _ => rfl⟩
  · rw [if_neg hc, if_neg hc]
    unfold F_Mo_put_215 F_Mo_discriminate
    obtain ⟨D, b, l, A, Z, A0, Z0, g1, g2, g3, g4, g5, g6, g7, g8, g9, g10, g11, g12, g13, g14, g15, g16, g17, g18⟩ := a12
    have g12 := g12 hv
    have hb : b = 0 ∨ b = 1 := by omega
    rw [if_neg i10, a2, g12, g4]
    rcases hb with rfl | rfl
    · rw [if_pos (show nI 0 = 0 from rfl), if_pos (nI_lt (show N < D + 0 by omega) (by omega)), Option.bind_some, nI_1]
      refine ⟨_, _, _, _, rfl, rfl, ⟨⟨a1, a2, a3, a4, a5, a6, a7, a8, a10, a11, ?_⟩, hu, hr⟩, ⟨fun k hk => ?_, fun _ _ => rfl⟩, fun k hk => va_up_ne _ _ (by omega)⟩
      · exact ⟨D, 1, l, A, Z, A0, Z0, g1, rfl, by omega, rfl, by omega, g6, g7, g8, g9, g10, fun q => absurd q hv, fun _ => rfl, g13, g14, g15, g16, g17, g18⟩
      · exact (va_up_ne _ _ (by omega)).trans (va_up_ne _ _ (by omega))
    · rw [if_neg (show ¬ nI 1 = 0 by decide), Option.bind_some]
      refine ⟨_, _, _, _, rfl, rfl, ⟨⟨a1, a2, a3, a4, a5, a6, a7, a8, a10, a11, ?_⟩, hu, hr⟩, ⟨fun k hk => rfl, fun _ _ => rfl⟩, fun k hk => va_up_ne _ _ (by omega)⟩
      exact ⟨D, 1, l, A, Z, A0, Z0, g1, rfl, by omega, g4, by omega, g6, g7, g8, g9, g10, fun q => absurd q hv, fun _ => g12, g13, g14, g15, g16, g17, g18⟩
