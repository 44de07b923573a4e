theorem mult {N : Nat} {mv : Nat → Int32} {mf : Nat → Nat → Int32} {mi : Nat → Nat} {tv : Nat → Int32} {tf : Nat → Nat → Int32} {R L : Int32} (h : rS N R L mv mf mi tv tf) (hh : Nat → Nat) :
    ∃ (mv1 : Nat → Int32) (mf1 : Nat → Nat → Int32) (tv1 : Nat → Int32) (tf1 : Nat → Nat → Int32), (if mv 14 = 0 then Option.bind (F_Li_at_7 0 mv mf mi) (fun z3 => Option.bind (F_Mu_work z3 mv mf mi) (fun z4 => F_Ma_cycle_96 hh z4.1 z4.2.1 z4.2.2)) else F_Ma_cycle_96 hh mv mf mi) = F_Ma_cycle_96 hh mv1 mf1 mi ∧ F_Mo_multiply tv tf = some (tv1, tf1) ∧ rK rT' N mv1 mf1 mi tv1 tf1 ∧ rRow N R L (mv1 44) (mv1 45) ∧ rU (mv1 30) (mv1 31) (tv1 17) (tv1 18) ∧ fT tv tf tv1 tf1 := by
  have h' := h
  obtain ⟨⟨a1, a2, a3, a4, a5, a6, a7, a8, a10, a11, a12⟩, hu, hr⟩ := h
  unfold F_Mo_multiply
  rcases hu with ⟨u0, u1, ⟨k, u2, u3⟩, u4⟩ | ⟨u0, u1, u2, u3⟩
  · obtain ⟨b1, b2⟩ := a7 7 0 (by unfold ln; omega)
    have b1 : tf 1 129 = mf 7 0 := b1
    obtain ⟨c1, c2⟩ := a7 8 0 (by unfold ln; omega)
    have c1 : tf 1 130 = mf 8 0 := c1
    obtain ⟨d1, d2⟩ := a7 8 1 (by unfold ln; omega)
    have d1 : tf 1 131 = mf 8 1 := d1
    rw [if_pos u0, at7 b2, Option.bind_some, u1]
    by_cases hk : k = 0
    · subst hk
      refine ⟨mv, mf, tv, tf, ?_, ?_, h'.1, hr, ⟨u1, ⟨0, by omega, u3⟩, u4⟩, fT.rf⟩
      · unfold F_Mu_work
        rw [if_pos (show mv 30 = 0 from u3), Option.bind_some]
      · rw [if_pos (show mv 30 = 0 from u3)]
    · have hk0 : ¬ mv 30 = 0 := by rw [u3]; exact nI_ne0 (by omega) (by omega)
      have hk1 : mv 30 - 1 = nI (k - 1) := by
        rw [u3, show (1 : Int32) = nI 1 from rfl, pk_sub (by omega)]
      have hk2 : ¬ mv 30 - 1 = 16 := by
        rw [hk1]
        intro e
        have := (nI_eq (b := 16) (by omega) (by decide)).mp e
        omega
      have l0 : ln 8 0 := by unfold ln; omega
      have l1 : ln 8 1 := by unfold ln; omega
      have hY : ∃ Y : Int32, ((2 : Int32) * ((((mf 8) 1) <<< ((16 : Int32) &&& 31)) ||| (((mf 8) 0) &&& (65535 : Int32)))) + ((((mv 31 <<< ((1 : Int32) &&& 31)) >>> ((16 : Int32) &&& 31)) &&& (1 : Int32)) * mf 7 0) = Y ∧
          (if (0 : Int32) ≤ tv 18 then (F_Mo_multiply_74 ((2 : Int32) * ((((mf 8) 1) <<< ((16 : Int32) &&& 31)) ||| (((mf 8) 0) &&& (65535 : Int32)))) (0 : Int32) (va_up tv 17 (mv 30 - 1)) tf) else (F_Mo_multiply_74 ((2 : Int32) * ((((mf 8) 1) <<< ((16 : Int32) &&& 31)) ||| (((mf 8) 0) &&& (65535 : Int32)))) (mf 7 0) (va_up tv 17 (mv 30 - 1)) tf)) = some ((va_up (va_up tv 17 (mv 30 - 1)) 18 (tv 18 <<< ((1 : Int32) &&& 31)).toInt16.toInt32), (va_up (va_up tf 1 (upd (tf 1) 130 Y.toInt16.toInt32.toInt16.toInt32)) 1 (upd (upd (tf 1) 130 Y.toInt16.toInt32.toInt16.toInt32) 131 (Y >>> ((16 : Int32) &&& 31)).toInt16.toInt32.toInt16.toInt32))) := by
        refine ⟨_, rfl, ?_⟩
        by_cases hn : (0 : Int32) ≤ tv 18
        · have hz : ((mv 31 <<< ((1 : Int32) &&& 31)) >>> ((16 : Int32) &&& 31)) &&& (1 : Int32) = 0 := by
            rw [mu_bit]
            rcases hb : (mv 31).toBitVec.getLsbD 15 with _ | _
            · rfl
            · have := (mu_neg (mv 31)).mpr hb
              rw [← u4] at this
              exact absurd (Int32.lt_of_lt_of_le this hn) (fun q => Int32.lt_irrefl q)
          rw [if_pos hn, hz, Int32.zero_mul]
          rfl
        · have hz : ((mv 31 <<< ((1 : Int32) &&& 31)) >>> ((16 : Int32) &&& 31)) &&& (1 : Int32) = 1 := by
            rcases bt_and ((mv 31 <<< ((1 : Int32) &&& 31)) >>> ((16 : Int32) &&& 31)) with hz | hz
            · rw [mu_bit] at hz
              refine absurd ?_ hn
              rw [u4]
              refine Int32.not_lt.mp (fun q => ?_)
              rw [(mu_neg (mv 31)).mp q] at hz
              exact absurd hz (by decide)
            · exact hz
          rw [if_neg hn, hz, Int32.one_mul]
          rfl
      obtain ⟨Y, y1, y2⟩ := hY
      have w1 := rWd_up a7 l0 (sh_mk Y.toInt16.toInt32)
      have w2 := rWd_up w1 l1 (sh_mk (Y >>> ((16 : Int32) &&& 31)).toInt16.toInt32)
      refine ⟨va_up (va_up mv 30 (mv 30 - 1)) 31 (mv 31 <<< ((1 : Int32) &&& 31)), va_up (va_up mf 8 (upd (mf 8) 0 Y.toInt16.toInt32.toInt16.toInt32)) 8 (upd (upd (mf 8) 0 Y.toInt16.toInt32.toInt16.toInt32) 1 (Y >>> ((16 : Int32) &&& 31)).toInt16.toInt32.toInt16.toInt32), va_up (va_up tv 17 (mv 30 - 1)) 18 (tv 18 <<< ((1 : Int32) &&& 31)).toInt16.toInt32, va_up (va_up tf 1 (upd (tf 1) 130 Y.toInt16.toInt32.toInt16.toInt32)) 1 (upd (upd (tf 1) 130 Y.toInt16.toInt32.toInt16.toInt32) 131 (Y >>> ((16 : Int32) &&& 31)).toInt16.toInt32.toInt16.toInt32), ?_, ?_, ⟨a1, a2, a3, a4, a5, a6, w2, a8, a10, a11, a12⟩, hr, ⟨rfl, ⟨k - 1, by omega, hk1⟩, ?_⟩, ⟨fun k hk => ?_, fun k hk => ?_⟩⟩
      · unfold F_Mu_work
        rw [if_neg hk0]
        rw [← y1]
        rfl
      · rw [if_neg hk0, if_neg hk2]
        show (if (0 : Int32) ≤ tv 18 then (F_Mo_multiply_74 ((2 : Int32) * ((((tf 1) 131) <<< ((16 : Int32) &&& 31)) ||| (((tf 1) 130) &&& (65535 : Int32)))) (0 : Int32) (va_up tv 17 (mv 30 - 1)) tf) else (F_Mo_multiply_74 ((2 : Int32) * ((((tf 1) 131) <<< ((16 : Int32) &&& 31)) ||| (((tf 1) 130) &&& (65535 : Int32)))) (tf 1 129) (va_up tv 17 (mv 30 - 1)) tf)) = _
        rw [b1, c1, d1]
        exact y2
      · show (tv 18 <<< ((1 : Int32) &&& 31)).toInt16.toInt32 = (mv 31 <<< ((1 : Int32) &&& 31)).toInt16.toInt32
        rw [u4, mu_shl]
      · exact (va_up_ne _ _ (by omega)).trans (va_up_ne _ _ (by omega))
      · exact (va_up_ne _ _ (by omega)).trans (va_up_ne _ _ (by omega))
  · refine ⟨mv, mf, va_up tv 17 16, tf, by rw [u0, if_neg i10], by rw [u2]; rfl, ⟨a1, a2, a3, a4, a5, a6, a7, a8, a10, a11, a12⟩, hr, ⟨u1.symm, ⟨16, by omega, u1⟩, u3⟩, ⟨fun k hk => va_up_ne _ _ (by omega), fun _ _ => rfl⟩⟩
theorem fail_k {N : Nat} {mv : Nat → Int32} {mf : Nat → Nat → Int32} {mi : Nat → Nat} {tv : Nat → Int32} {tf : Nat → Nat → Int32} {T : Nat → Nat → Int32 → Int32 → Prop} (x : Int32) (h : rK T N mv mf mi tv tf) : ∃ (mv1 tv1 : Nat → Int32), F_Ma_fail x mv mf mi = some (mv1, mf, mi) ∧ F_Mo_fail x tv tf = some (tv1, tf) ∧ rK T N mv1 mf mi tv1 tf ∧ (∀ k, 14 ≤ k → mv1 k = mv k) ∧ (∀ k, 5 ≤ k → tv1 k = tv k) := by
  obtain ⟨a1, a2, a3, a4, a5, a6, a7, a8, a10, a11, a12⟩ := h
  by_cases h0 : mv 10 = 0
  · refine ⟨va_up (va_up mv 10 x) 9 0, va_up (va_up tv 4 x) 3 0, ?_, ?_, ⟨a1, a2, rfl, rfl, Or.inl rfl, a6, a7, a8, a10, a11, a12⟩, fun k hk => ?_, fun k hk => ?_⟩
    · unfold F_Ma_fail F_Ma_fail_12
      rw [if_pos h0]
    · unfold F_Mo_fail F_Mo_fail_16
      rw [a3, if_pos h0]
    · rw [va_up_ne _ _ (by omega), va_up_ne _ _ (by omega)]
    · rw [va_up_ne _ _ (by omega), va_up_ne _ _ (by omega)]
  · refine ⟨va_up mv 9 0, va_up (va_up tv 4 (mv 10)) 3 0, ?_, ?_, ⟨a1, a2, rfl, rfl, Or.inl rfl, a6, a7, a8, a10, a11, a12⟩, fun k hk => ?_, fun k hk => ?_⟩
    · unfold F_Ma_fail F_Ma_fail_12
      rw [if_neg h0]
    · unfold F_Mo_fail F_Mo_fail_16
      rw [a3, if_neg h0]
    · rw [va_up_ne _ _ (by omega)]
    · rw [va_up_ne _ _ (by omega), va_up_ne _ _ (by omega)]
/-- the cycle's end -/
theorem stepF {N : Nat} {mv : Nat → Int32} {mf : Nat → Nat → Int32} {mi : Nat → Nat} {tv : Nat → Int32} {tf : Nat → Nat → Int32} (hN : N + 1 ≤ 1100000) (h : rK rT' N mv mf mi tv tf) (hu : rU (mv 30) (mv 31) (tv 17) (tv 18)) : rM (N + 1) (va_up mv 8 (mv 8 + 1)) mf mi (va_up tv 2 (tv 2 + 1)) tf := by
  obtain ⟨a1, a2, a3, a4, a5, a6, a7, a8, ⟨c, n, e1, e2, e3, e4, e5, e6, e7, e8, e9, e10⟩, ⟨p1, p2, p3, p4⟩, a12⟩ := h
  refine ⟨?_, ?_, a3, a4, a5, a6, a7, a8, hu, ⟨c, n, e1, e2, e3, e4, e5, e6, e7, e8, e9, ?_⟩, ⟨p1, p2, p3, ?_⟩, fun _ => ?_⟩
  · show mv 8 + 1 = _
    rw [a1, nI_1]
  · show tv 2 + 1 = _
    rw [a2, nI_1]
  · rcases e10 with e10 | ⟨f1, F, n0, f2, f3, f4, f5, f6, f7, f8⟩
    · exact Or.inl e10
    · refine Or.inr ⟨f1, F, n0, by omega, f3, f4, f5, f6, f7, ?_⟩
      intro r hr
      exact ⟨fun q => (f8 r hr).1 (by omega), fun q1 q2 => (f8 r hr).2 (by omega) (by omega)⟩
  · rcases p4 with p4 | ⟨k, p4, p5⟩
    · exact Or.inl p4
    · exact Or.inr ⟨k, by omega, p5⟩
  · obtain ⟨D, b, l, A, Z, A0, Z0, g1, g2, g3, g4, g5, g6, g7, g8, g9, g10, g11, g12, g13, g14, g15, g16, g17, g18⟩ := a12
    exact ⟨D, b, l, A, Z, A0, Z0, g1, g2, g3, g4, by omega, by omega, g7, g8, g9, g10, g11, g12, g13, g14, g15, g16, g17, g18⟩
/-- a row that was missed -/
theorem stepE {N : Nat} {mv : Nat → Int32} {mf : Nat → Nat → Int32} {mi : Nat → Nat} {tv : Nat → Int32} {tf : Nat → Nat → Int32} {R L : Int32} (hN : N + 1 ≤ 1100000) (h : rK rT' N mv mf mi tv tf) (hr : rRow N R L (mv 44) (mv 45)) (hu : rU (mv 30) (mv 31) (tv 17) (tv 18)) (hh : Nat → Nat) :
    ∃ (mv1 tv1 : Nat → Int32), F_Ma_cycle_96 hh mv mf mi = some (hh, mv1, mf, mi) ∧ (if R < (0 : Int32) then F_Mo_cycle_209 tv tf else if (L - L / (8 : Int32) * (8 : Int32)) = (2 : Int32) then (if tv 24 = (0 : Int32) then Option.bind (F_Mo_fail (1 : Int32) tv tf) (fun z2 => F_Mo_cycle_209 z2.1 z2.2) else F_Mo_cycle_209 tv tf) else F_Mo_cycle_209 tv tf) = some (tv1, tf) ∧ rM (N + 1) mv1 mf mi tv1 tf ∧ fT tv tf tv1 tf := by
  have h' := h
  obtain ⟨mvf, tvf, q1, q2, q3, q4, q5⟩ := fail_k 1 h
  obtain ⟨a1, a2, a3, a4, a5, a6, a7, a8, a10, a11, a12⟩ := h
  have fin : ∃ (mv1 tv1 : Nat → Int32), F_Ma_cycle_115 hh mv mf mi = some (hh, mv1, mf, mi) ∧ F_Mo_cycle_209 tv tf = some (tv1, tf) ∧ rM (N + 1) mv1 mf mi tv1 tf ∧ fT tv tf tv1 tf := ⟨_, _, rfl, rfl, stepF hN h' hu, fun k hk => va_up_ne _ _ (by omega), fun _ _ => rfl⟩
  have fif : ∃ (mv1 tv1 : Nat → Int32), Option.bind (F_Ma_fail (1 : Int32) mv mf mi) (fun z2 => F_Ma_cycle_115 hh z2.1 z2.2.1 z2.2.2) = some (hh, mv1, mf, mi) ∧ Option.bind (F_Mo_fail (1 : Int32) tv tf) (fun z2 => F_Mo_cycle_209 z2.1 z2.2) = some (tv1, tf) ∧ rM (N + 1) mv1 mf mi tv1 tf ∧ fT tv tf tv1 tf := by
    rw [q1, q2]
    exact ⟨_, _, rfl, rfl, stepF hN q3 (by show rU (mvf 30) (mvf 31) (tvf 17) (tvf 18); rw [q4 30 (by decide), q4 31 (by decide), q5 17 (by decide), q5 18 (by decide)]; exact hu), fun k hk => (va_up_ne _ _ (by omega)).trans (q5 k (by omega)), fun _ _ => rfl⟩
  obtain ⟨R', r1, r2, r3⟩ := row_sp (mi := mi) (by omega) a2 a10
  obtain ⟨c, n, e1, e2, e3, e4, e5, e6, e7, e8, e9, e10⟩ := a10
  unfold F_Ma_cycle_96 F_Re_missed F_Re_missed_41
  rw [a1, r2, Option.bind_some]
  rcases r3 with ⟨rfl, r4⟩ | ⟨r4, F, r, p, r5, r6, r7, r8, rfl, r9⟩
  · have hR1 : R = -1 := by
      rcases hr with ⟨q, _⟩ | ⟨q, F, r, p, q1, q2, q3, q4, _⟩
      · exact q
      · rcases r4 with r4 | ⟨F', hF', r4, r5⟩
        · rw [r4] at q; exact absurd q (by decide)
        · have : F' = F := (nI_eq (by omega) (by omega)).mp (r4.symm.trans q1)
          subst this
          have := r5 r q2
          omega
    rw [hR1, if_pos (show (-1 : Int32) < 0 by decide), if_pos (show (-1 : Int32) < 0 by decide), Option.bind_some, if_pos rfl]
    exact fin
  · rcases hr with ⟨q, q'⟩ | ⟨q, F', r', p', q1, q2, q3, q4, q5, q6⟩
    · rcases q' with q' | ⟨F', hF', q1, q2⟩
      · rw [r4] at q'; exact absurd q' (by decide)
      · have : F' = F := (nI_eq (by omega) (by omega)).mp (q1.symm.trans r5)
        subst this
        have := q2 r r6
        omega
    · have : F' = F := (nI_eq (by omega) (by omega)).mp (q1.symm.trans r5)
      subst this
      have : r' = r := by omega
      subst this
      have : p' = p := by omega
      subst this
      have hL : L - L / (8 : Int32) * (8 : Int32) = nI p' := by
        rw [q6, show (8 : Int32) = nI 8 from rfl, pk_rem (by omega) (by decide) (by decide), show (8 * r' + p') % 8 = p' by omega]
      rcases e10 with ⟨f1, _⟩ | ⟨f1, F, n0, f2, f3, f4, f5, f6, f7, f8⟩
      · rw [f1] at r4; exact absurd r4 (by decide)
      · have : F = F' := (nI_eq (by omega) (by omega)).mp (f3.symm.trans r5)
        subst this
        have hM : nI N - mv 44 - 40 = nI (8 * r' + p') := by rw [f3, ← r9, a2, f4]
        rw [hM, show (8 : Int32) = nI 8 from rfl, pk_rem (by omega) (by decide) (by decide), show (8 * r' + p') % 8 = p' by omega, q5, if_neg (show ¬ nI r' < 0 from nI_pos (by omega)), if_neg (show ¬ nI r' < 0 from nI_pos (by omega))]
        have hL : L - L / nI 8 * nI 8 = nI p' := hL
        rw [hL]
        by_cases hp : p' = 2
        · rw [if_pos (show nI p' = 2 by rw [hp]; rfl), if_pos (show nI p' = 2 by rw [hp]; rfl)]
          have hb := (f8 r' r6).2 (by omega) (by omega)
          by_cases hm : tv 24 = 0
          · have : bt (mv 46) r' = false := by
              rcases hx : bt (mv 46) r' with _ | _
              · rfl
              · rw [hb.mp hx] at hm; exact absurd hm i10
            rw [if_pos hm, if_pos ((bt_get (mv 46) r6).mpr this), Option.bind_some, if_neg i10]
            exact fif
          · have h1 : tv 24 = 1 := by
              rcases e9 with e9 | e9
              · exact absurd e9 hm
              · exact e9
            have : ¬ ((mv 46 >>> (nI r' &&& 31)) &&& 1 = 0) := fun q => by
              have := (bt_get (mv 46) r6).mp q
              rw [hb.mpr h1] at this
              exact absurd this (by decide)
            rw [if_neg hm, if_neg this, Option.bind_some, if_pos rfl]
            exact fin
        · have hp2 : ¬ nI p' = (2 : Int32) := fun e => hp ((nI_eq (b := 2) (by omega) (by decide)).mp e)
          rw [if_neg hp2, if_neg hp2, Option.bind_some, if_pos rfl]
          exact fin
/-- the cycle -/
theorem cycle_ok {N : Nat} {mv : Nat → Int32} {mf : Nat → Nat → Int32} {mi : Nat → Nat} {tv : Nat → Int32} {tf : Nat → Nat → Int32} (hN : N + 1 ≤ 1100000) (h : rM N mv mf mi tv tf) (hg : mv 9 = 1) (hh : Nat → Nat) :
    ∃ (hh1 : Nat → Nat) (mv1 : Nat → Int32) (mf1 : Nat → Nat → Int32) (mi1 : Nat → Nat) (tv1 : Nat → Int32) (tf1 : Nat → Nat → Int32), F_Ma_cycle hh mv mf mi = some (hh1, mv1, mf1, mi1) ∧ F_Mo_cycle tv tf = some (tv1, tf1) ∧ rM (N + 1) mv1 mf1 mi1 tv1 tf1 ∧ fT tv tf tv1 tf1 := by
  obtain ⟨hh1, mv1, mi1, tv1, p1, p2, p3, p4, p5, p6⟩ := stepA hN h hg hh
  obtain ⟨R, L, s, q1, q2, q3, q4⟩ := stepB (by omega) p3
  obtain ⟨mv2, mf2, tv2, tf2, r1, r2, r3, r4⟩ := stepC (R := R) (L := L) (by omega) q2 ⟨q3, Or.inl ⟨p4, p5⟩, q4⟩
  obtain ⟨mv3, mf3, tv3, tf3, s1, s2, s3, s4, s5, s6⟩ := mult r3 hh1
  obtain ⟨mv4, tv4, t1, t2, t3, t4⟩ := stepE hN s3 s4 s5 hh1
  refine ⟨hh1, mv4, mf3, mi1, tv4, tf3, ?_, ?_, t3, ((p6.trans r4).trans s6).trans t4⟩
  · rw [p1]
    unfold F_Ma_cycle_46
    rcases hm : F_Ma_move_0 0 mv1 mf mi1 with _ | ⟨v', f', w'⟩
    · rw [hm] at r1; cases r1
    · rw [hm] at r1
      have r1 : F_Ma_move_1 1 v' f' w' = some (mv2, mf2, mi1) := r1
      rw [Option.bind_some, r1, Option.bind_some]
      exact s1.trans t1
  · rw [p2, q1, r2]
    unfold F_Mo_cycle_181
    rw [s2, Option.bind_some]
    exact t2
theorem run_lp (x1 : Int32) : ∀ (n l N : Nat) (hh : Nat → Nat) {mv : Nat → Int32} {mf : Nat → Nat → Int32} {mi : Nat → Nat} {tv : Nat → Int32} {tf : Nat → Nat → Int32}, (l : Int) ≤ x1.toInt → x1.toInt < l + n → l + n ≤ 3000 → N + n ≤ 1100001 → rM N mv mf mi tv tf →
    ∃ (r : Int32) (N1 : Nat) (hh1 : Nat → Nat) (mv1 : Nat → Int32) (mf1 : Nat → Nat → Int32) (mi1 : Nat → Nat) (tv1 : Nat → Int32) (tf1 : Nat → Nat → Int32), F_DM_run_15 x1 n (nI l) hh mv mf mi = some (r, hh1, mv1, mf1, mi1) ∧ F_Mo_run_15 x1 n (nI l) tv tf = some (r, tv1, tf1) ∧ N1 + 1 ≤ N + n ∧ rM N1 mv1 mf1 mi1 tv1 tf1 ∧ fT tv tf tv1 tf1 := by
  intro n
  induction n with
  | zero =>
    intro l N hh mv mf mi tv tf hx0 hx hl hN h
    omega
  | succ n ih =>
    intro l N hh mv mf mi tv tf hx0 hx hl hN h
    have h' := h
    obtain ⟨a1, a2, a3, a4, a5, -⟩ := h
    have d1 : F_DM_run_15 x1 (n + 1) (nI l) hh mv mf mi = (if x1 ≤ nI l then some (nI l, hh, mv, mf, mi) else if mv 9 = 0 then some (nI l, hh, mv, mf, mi) else Option.bind (F_Ma_cycle hh mv mf mi) (fun z1 => F_DM_run_15 x1 n (nI l + 1) z1.1 z1.2.1 z1.2.2.1 z1.2.2.2)) := rfl
    have d2 : F_Mo_run_15 x1 (n + 1) (nI l) tv tf = (if x1 ≤ nI l then some (nI l, tv, tf) else if tv 3 = 0 then some (nI l, tv, tf) else Option.bind (F_Mo_cycle tv tf) (fun z1 => F_Mo_run_15 x1 n (nI l + 1) z1.1 z1.2)) := rfl
    rw [d1, d2, a4]
    by_cases hx1 : x1 ≤ nI l
    · rw [if_pos hx1, if_pos hx1]
      exact ⟨nI l, N, hh, mv, mf, mi, tv, tf, rfl, rfl, by omega, h', fT.rf⟩
    · rw [if_neg hx1, if_neg hx1]
      by_cases hg : mv 9 = 0
      · rw [if_pos hg, if_pos hg]
        exact ⟨nI l, N, hh, mv, mf, mi, tv, tf, rfl, rfl, by omega, h', fT.rf⟩
      · rw [if_neg hg, if_neg hg]
        have hx2 : ¬ x1.toInt ≤ (l : Int) := fun q => hx1 (i_le.mpr (by rw [nI_toInt (by omega)]; exact q))
        obtain ⟨hh1, mv1, mf1, mi1, tv1, tf1, p1, p2, p3, p4⟩ := cycle_ok (by omega) h' (a5.elim (fun q => absurd q hg) id) hh
        rw [p1, p2, Option.bind_some, Option.bind_some, nI_1]
        obtain ⟨r, N1, hh2, mv2, mf2, mi2, tv2, tf2, q1, q2, q3, q4, q5⟩ := ih (l + 1) (N + 1) hh1 (mv := mv1) (mf := mf1) (mi := mi1) (tv := tv1) (tf := tf1) (by omega) (by omega) (by omega) (by omega) p3
        exact ⟨r, N1, hh2, mv2, mf2, mi2, tv2, tf2, q1, q2, by omega, q4, p4.trans q5⟩
theorem run_ok {N : Nat} {mv : Nat → Int32} {mf : Nat → Nat → Int32} {mi : Nat → Nat} {tv : Nat → Int32} {tf : Nat → Nat → Int32} (x1 : Int32) (hh : Nat → Nat) (hN : N + 2000 ≤ 1100000) (h : rM N mv mf mi tv tf) :
    ∃ (r : Int32) (N1 : Nat) (hh1 : Nat → Nat) (mv1 : Nat → Int32) (mf1 : Nat → Nat → Int32) (mi1 : Nat → Nat) (tv1 : Nat → Int32) (tf1 : Nat → Nat → Int32), F_DM_run x1 hh mv mf mi = some (r, hh1, mv1, mf1, mi1) ∧ F_Mo_run x1 tv tf = some (r, tv1, tf1) ∧ N1 ≤ N + 2000 ∧ rM N1 mv1 mf1 mi1 tv1 tf1 ∧ fT tv tf tv1 tf1 := by
  unfold F_DM_run F_Mo_run F_DM_run_11 F_Mo_run_11
  by_cases h0 : x1 < 0
  · rw [if_pos h0, if_pos h0]
    exact ⟨-1, N, hh, mv, mf, mi, tv, tf, rfl, rfl, by omega, h, fT.rf⟩
  · rw [if_neg h0, if_neg h0]
    by_cases h1 : x1 ≤ 2000
    · rw [if_pos h1, if_pos h1]
      have e0 : (0 : Int) ≤ x1.toInt := by
        have : ¬ x1.toInt < (0 : Int32).toInt := fun q => h0 (i_lt.mpr q)
        rw [show (0 : Int32).toInt = 0 from rfl] at this
        omega
      have e1 : x1.toInt ≤ 2000 := i_le.mp h1
      obtain ⟨r, N1, hh2, mv2, mf2, mi2, tv2, tf2, q1, q2, q3, q4, q5⟩ := run_lp x1 2001 0 N hh e0 (by omega) (by omega) (by omega) h
      exact ⟨r, N1, hh2, mv2, mf2, mi2, tv2, tf2, q1, q2, by omega, q4, q5⟩
    · rw [if_neg h1, if_neg h1]
      exact ⟨-1, N, hh, mv, mf, mi, tv, tf, rfl, rfl, by omega, h, fT.rf⟩
