theorem win_sp {a z a' z' o : Int32} {si di A Z N : Nat} (hN : N ≤ 1100000) (hA : A ≤ 1200000) (hZ : Z ≤ 1200000) (h : rV a z a' z' si di o A Z) :
    (¬ nI N < a ∧ ¬ z < nI N ∧ ¬ nI N < a' ∧ ¬ z' < nI N ∧ a ≠ -1 ∧ A ≤ N ∧ N ≤ Z ∧ ∃ q, q < 2097152 ∧ o = nI q ∧ si = q % 16 ∧ di = q / 16 % 16) ∨ ((nI N < a ∨ z < nI N) ∧ (nI N < a' ∨ z' < nI N)) := by
  rcases h with ⟨rfl, rfl, rfl, rfl⟩ | ⟨rfl, rfl, rfl, rfl, hq⟩
  · have h1 : (-1 : Int32) < nI N := by
      rw [i_lt, nI_toInt (by omega), show (-1 : Int32).toInt = -1 from rfl]
      omega
    exact Or.inr ⟨Or.inr h1, Or.inr h1⟩
  · by_cases h1 : N < A
    · have := nI_lt h1 (by omega)
      exact Or.inr ⟨Or.inl this, Or.inl this⟩
    · by_cases h2 : Z < N
      · have := nI_lt h2 (by omega)
        exact Or.inr ⟨Or.inr this, Or.inr this⟩
      · have h3 := nI_nlt (show A ≤ N by omega) (by omega)
        have h4 := nI_nlt (show N ≤ Z by omega) (by omega)
        refine Or.inl ⟨h3, h4, h3, h4, ?_, by omega, by omega, hq⟩
        intro h
        have : nI A < 0 := by rw [h]; decide
        exact nI_pos (by omega) this
theorem open0_y {v : Nat → Int32} {f : Nat → Nat → Int32} {w : Nat → Nat} {x : Int32} (h1 : ¬ x < v 50) (h2 : ¬ v 51 < x) : F_Wi_open_0 x v f w = some 1 := by
  unfold F_Wi_open_0
  rw [if_neg h1, if_neg h2]
theorem open0_n {v : Nat → Int32} {f : Nat → Nat → Int32} {w : Nat → Nat} {x : Int32} (h : x < v 50 ∨ v 51 < x) : F_Wi_open_0 x v f w = some 0 := by
  unfold F_Wi_open_0 F_Wi_open_0_20
  rcases h with h | h
  · rw [if_pos h]
  · rw [if_pos h]; split <;> rfl
theorem open1_y {v : Nat → Int32} {f : Nat → Nat → Int32} {w : Nat → Nat} {x : Int32} (h1 : ¬ x < v 52) (h2 : ¬ v 53 < x) : F_Wi_open_1 x v f w = some 1 := by
  unfold F_Wi_open_1
  rw [if_neg h1, if_neg h2]
theorem open1_n {v : Nat → Int32} {f : Nat → Nat → Int32} {w : Nat → Nat} {x : Int32} (h : x < v 52 ∨ v 53 < x) : F_Wi_open_1 x v f w = some 0 := by
  unfold F_Wi_open_1 F_Wi_open_1_20
  rcases h with h | h
  · rw [if_pos h]
  · rw [if_pos h]; split <;> rfl
theorem move0_n {v : Nat → Int32} {f : Nat → Nat → Int32} {w : Nat → Nat} (x2 : Int32) (h : v 8 < v 50 ∨ v 51 < v 8) : F_Ma_move_0 x2 v f w = some (v, f, w) := by
  unfold F_Ma_move_0
  rw [open0_n h, Option.bind_some, if_pos rfl]
theorem move1_n {v : Nat → Int32} {f : Nat → Nat → Int32} {w : Nat → Nat} (x2 : Int32) (h : v 8 < v 52 ∨ v 53 < v 8) : F_Ma_move_1 x2 v f w = some (v, f, w) := by
  unfold F_Ma_move_1
  rw [open1_n h, Option.bind_some, if_pos rfl]
theorem cyc57 {R L s : Int32} {v : Nat → Int32} {f : Nat → Nat → Int32} (hs : s = 0 ∨ s = 1) : F_Mo_cycle_57 R L s v f = (if v 2 < v 11 then F_Mo_cycle_87 R L 0 (va_up v 24 s) f else if v 12 < v 2 then F_Mo_cycle_87 R L 0 (va_up v 24 s) f else F_Mo_cycle_87 R L 1 (va_up v 24 s) f) := by
  unfold F_Mo_cycle_57 F_Mo_cycle_86
  rw [if_pos hs]
/-- both windows -/
theorem stepC {N : Nat} {mv : Nat → Int32} {mf : Nat → Nat → Int32} {mi : Nat → Nat} {tv : Nat → Int32} {tf : Nat → Nat → Int32} {R L : Int32} {s : Int32} (hN : N ≤ 1100000) (hs : s = 0 ∨ s = 1) (h : rS N R L mv mf mi (va_up tv 24 s) tf) :
    ∃ (mv1 : Nat → Int32) (mf1 : Nat → Nat → Int32) (tv1 : Nat → Int32) (tf1 : Nat → Nat → Int32), (Option.bind (F_Ma_move_0 0 mv mf mi) (fun z1 => F_Ma_move_1 1 z1.1 z1.2.1 z1.2.2)) = some (mv1, mf1, mi) ∧ F_Mo_cycle_57 R L s tv tf = F_Mo_cycle_181 R L tv1 tf1 ∧ rS N R L mv1 mf1 mi tv1 tf1 ∧ fT tv tf tv1 tf1 := by
  have h' := h
  have hf0 : fT tv tf (va_up tv 24 s) tf := ⟨fun k hk => va_up_ne _ _ (by omega), fun _ _ => rfl⟩
  obtain ⟨⟨a1, a2, a3, a4, a5, a6, a7, a8, a10, a11, a12⟩, hu, hr⟩ := h
  have a2 : tv 2 = nI N := a2
  obtain ⟨D, b, l, A, Z, A0, Z0, g1, g2, g3, g4, g5, g6, g7, g8, g9, g10, g11, g12, g13, g14, g15, g16, g17, g18⟩ := a12
  rw [cyc57 hs]
  rcases win_sp hN (by omega) (by omega) g10 with ⟨w1, w2, w3, w4, w5, w6, w7, q, w8, w9, w10, w11⟩ | ⟨w1, w2⟩
  · -- the latest is open
    have w3 : ¬ nI N < tv 11 := w3
    have w4 : ¬ tv 12 < nI N := w4
    have w9 : tv 10 = nI q := w9
    have hb0 : nI N < mv 50 ∨ mv 51 < nI N := by
      rcases win_sp hN (by omega) (by omega) g15 with ⟨_, _, _, _, v5, v6, v7, _⟩ | ⟨v1, _⟩
      · rcases g18 with g | g | g
        · exact absurd g v5
        · exact absurd g w5
        · omega
      · exact v1
    have hcur : F_Mo_current (va_up tv 24 s) tf = some (nI q) := by
      show (if tv 2 < tv 11 then _ else if tv 12 < tv 2 then _ else some (tv 10)) = _
      rw [a2, if_neg w3, if_neg w4, w9]
    obtain ⟨x, mv1, s1, z1, z2, z3, z4, z5, z6⟩ := srcs_1 (R := R) (L := L) (o := nI q) (q := q % 16) 1 1 hN h'.1 hr (by omega) w10 (o_src q w8) (nI_pos (by omega)) (open1_y (by rw [a1]; exact w1) (by rw [a1]; exact w2)) hcur
    have h2 : rS N R L mv1 mf mi (va_up (va_up tv 24 s) 24 s1) tf := ⟨z5, by rw [z6 14 (by decide), z6 30 (by decide), z6 31 (by decide)]; exact hu, by rw [z6 44 (by decide), z6 45 (by decide)]; exact hr⟩
    obtain ⟨mv2, mf2, tv2, tf2, y1, y2, y3, y4, y5⟩ := dsts_1 (q := q / 16 % 16) hN x z3 h2 (by rw [z6 52 (by decide)]; exact w5) (by omega) w11
    refine ⟨mv2, mf2, tv2, tf2, ?_, ?_, y3, hf0.trans (fT.trans ⟨fun k hk => va_up_ne _ _ (by omega), fun _ _ => rfl⟩ y4)⟩
    · rw [move0_n 0 (by rw [a1]; exact hb0), Option.bind_some, z1, y1]
    · rw [a2, if_neg w3, if_neg w4, z2]
      unfold F_Mo_cycle_137 F_Mo_cycle_168
      rw [if_pos z4, if_neg i10, o_dst q w8, y2, Option.bind_some]
  · have w2 : nI N < tv 11 ∨ tv 12 < nI N := w2
    have h86 : (if tv 2 < tv 11 then F_Mo_cycle_87 R L 0 (va_up tv 24 s) tf else if tv 12 < tv 2 then F_Mo_cycle_87 R L 0 (va_up tv 24 s) tf else F_Mo_cycle_87 R L 1 (va_up tv 24 s) tf) = F_Mo_cycle_87 R L 0 (va_up tv 24 s) tf := by
      rw [a2]
      rcases w2 with w2 | w2
      · rw [if_pos w2]
      · rw [if_pos w2]; split <;> rfl
    have h29 : F_Mo_current (va_up tv 24 s) tf = F_Mo_current_29 (va_up tv 24 s) tf := by
      show (if tv 2 < tv 11 then F_Mo_current_29 (va_up tv 24 s) tf else if tv 12 < tv 2 then F_Mo_current_29 (va_up tv 24 s) tf else some (tv 10)) = _
      rw [a2]
      rcases w2 with w2 | w2
      · rw [if_pos w2]
      · rw [if_pos w2]; split <;> rfl
    rw [h86]
    rcases win_sp hN (by omega) (by omega) g15 with ⟨v1, v2, v3, v4, v5, v6, v7, q, v8, v9, v10, v11⟩ | ⟨v1, v2⟩
    · -- the one before is open
      have v3 : ¬ nI N < tv 14 := v3
      have v4 : ¬ tv 15 < nI N := v4
      have v9 : tv 13 = nI q := v9
      have hcur : F_Mo_current (va_up tv 24 s) tf = some (nI q) := by
        rw [h29]
        show (if tv 2 < tv 14 then _ else if tv 15 < tv 2 then _ else some (tv 13)) = _
        rw [a2, if_neg v3, if_neg v4, v9]
      obtain ⟨x, mv1, s1, z1, z2, z3, z4, z5, z6⟩ := srcs_0 (R := R) (L := L) (o := nI q) (q := q % 16) 0 0 hN h'.1 hr (by omega) v10 (o_src q v8) (nI_pos (by omega)) (open0_y (by rw [a1]; exact v1) (by rw [a1]; exact v2)) hcur
      have h2 : rS N R L mv1 mf mi (va_up (va_up tv 24 s) 24 s1) tf := ⟨z5, by rw [z6 14 (by decide), z6 30 (by decide), z6 31 (by decide)]; exact hu, by rw [z6 44 (by decide), z6 45 (by decide)]; exact hr⟩
      obtain ⟨mv2, mf2, tv2, tf2, y1, y2, y3, y4, y5⟩ := dsts_0 (q := q / 16 % 16) hN x z3 h2 (by omega) v11
      refine ⟨mv2, mf2, tv2, tf2, ?_, ?_, y3, hf0.trans (fT.trans ⟨fun k hk => va_up_ne _ _ (by omega), fun _ _ => rfl⟩ y4)⟩
      · rw [z1, y1, Option.bind_some]
        refine move1_n 1 ?_
        show mv2 8 < mv2 52 ∨ mv2 53 < mv2 8
        rw [y5 52 (by decide), y5 53 (by decide), z6 52 (by decide), z6 53 (by decide), y3.1.1]
        exact w1
      · rw [z2]
        unfold F_Mo_cycle_137 F_Mo_cycle_168
        rw [if_pos z4, if_pos rfl, o_dst q v8]
        rcases y2 with ⟨y6, y7⟩ | ⟨y6, y7, y8⟩
        · rw [if_neg (show ¬ nI (q / 16 % 16) = (11 : Int32) from fun e => y6 (Or.inl ((nI_eq (b := 11) (by omega) (by decide)).mp e))), if_neg (show ¬ nI (q / 16 % 16) = (12 : Int32) from fun e => y6 (Or.inr ((nI_eq (b := 12) (by omega) (by decide)).mp e))), y7, Option.bind_some]
        · rw [y7, y8]
          rcases y6 with y6 | y6
          · rw [if_pos (by rw [y6]; rfl)]
          · rw [if_pos (show nI (q / 16 % 16) = (12 : Int32) by rw [y6]; rfl)]
            split <;> rfl
    · have v2 : nI N < tv 14 ∨ tv 15 < nI N := v2
      have hcur : F_Mo_current (va_up tv 24 s) tf = some (-1) := by
        rw [h29]
        show (if tv 2 < tv 14 then some (-1) else if tv 15 < tv 2 then some (-1) else some (tv 13)) = _
        rw [a2]
        rcases v2 with v2 | v2
        · rw [if_pos v2]
        · rw [if_pos v2]; split <;> rfl
      refine ⟨mv, mf, va_up tv 24 s, tf, ?_, ?_, h', hf0⟩
      · rw [move0_n 0 (by rw [a1]; exact v1), Option.bind_some]
        exact move1_n (v := mv) 1 (by rw [a1]; exact w1)
      · unfold F_Mo_cycle_87
        rw [hcur, Option.bind_some, if_pos (by decide)]
