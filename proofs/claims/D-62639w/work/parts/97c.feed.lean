theorem feed39 : ∀ (d i n : Nat) (v : Nat → Int32) (f : Nat → Nat → Int32), i + d = 12 → d < n → ∃ g : Nat → Int32, F_Mo_feed_39 n (nI i) v f = F_Mo_feed_76 100 0 (va_up v 19 (v 19 - 12)) (va_up f 22 g) ∧ (∀ j, j < i → g j = f 22 j) ∧ ∀ j, i ≤ j → j < 12 → g j = (f 21 j).toInt16.toInt32 := by
  intro d
  induction d with
  | zero =>
    intro i n v f hi hn
    obtain ⟨n, rfl⟩ : ∃ k, n = k + 1 := ⟨n - 1, by omega⟩
    have : i = 12 := by omega
    subst this
    refine ⟨f 22, ?_, fun _ _ => rfl, fun j h1 h2 => by omega⟩
    rw [up_id f 22 _ rfl]
    rfl
  | succ d ih =>
    intro i n v f hi hn
    obtain ⟨n, rfl⟩ : ∃ k, n = k + 1 := ⟨n - 1, by omega⟩
    obtain ⟨g, h1, h2, h3⟩ := ih (i + 1) n v (va_up f 22 (upd (f 22) i (f 21 i).toInt16.toInt32)) (by omega) (by omega)
    refine ⟨g, ?_, fun j hj => ?_, fun j hj hj2 => ?_⟩
    · rw [up_up] at h1
      rw [← h1]
      show (if (12 : Int32) ≤ nI i then _ else if nI i < 0 ∨ 48 ≤ (nI i).toNatClampNeg then none else if nI i < 0 ∨ 12 ≤ (nI i).toNatClampNeg then none else F_Mo_feed_39 n (nI i + 1) v (va_up f 22 (upd (f 22) (nI i).toNatClampNeg ((f 21) (nI i).toNatClampNeg).toInt16.toInt32))) = _
      rw [if_neg (show ¬ (12 : Int32) ≤ nI i from nI_ge (b := 12) (by omega) (by decide)), if_neg (nI_in (by omega) (by decide)), if_neg (nI_in (by omega) (by decide)), nI_clamp (by omega), nI_1]
    · rw [h2 j (by omega)]
      show upd (f 22) i _ j = _
      rw [pk_un (by omega)]
    · by_cases hji : j = i
      · subst hji
        rw [h2 j (by omega)]
        show upd (f 22) j _ j = _
        rw [pk_us]
      · rw [h3 j (by omega) hj2]
        rfl
theorem feed76 {m : Nat} (hm : m ≤ 36) : ∀ (d i n : Nat) (v : Nat → Int32) (f : Nat → Nat → Int32), v 19 = nI m → i + d = m → d < n → ∃ g : Nat → Int32, F_Mo_feed_76 n (nI i) v f = some (va_up (va_up v 23 (v 2)) 24 0, va_up f 21 g) ∧ (∀ j, j < i → g j = f 21 j) ∧ ∀ j, i ≤ j → j < m → g j = (f 21 (j + 12)).toInt16.toInt32 := by
  intro d
  induction d with
  | zero =>
    intro i n v f hv hi hn
    obtain ⟨n, rfl⟩ : ∃ k, n = k + 1 := ⟨n - 1, by omega⟩
    refine ⟨f 21, ?_, fun _ _ => rfl, fun j h1 h2 => by omega⟩
    rw [up_id f 21 _ rfl]
    show (if v 19 ≤ nI i then some (va_up (va_up v 23 (v 2)) 24 0, f) else _) = _
    rw [hv, if_pos (nI_le (by omega) (by omega))]
  | succ d ih =>
    intro i n v f hv hi hn
    obtain ⟨n, rfl⟩ : ∃ k, n = k + 1 := ⟨n - 1, by omega⟩
    obtain ⟨g, h1, h2, h3⟩ := ih (i + 1) n v (va_up f 21 (upd (f 21) i (f 21 (i + 12)).toInt16.toInt32)) hv (by omega) (by omega)
    refine ⟨g, ?_, fun j hj => ?_, fun j hj hj2 => ?_⟩
    · rw [up_up] at h1
      rw [← h1]
      show (if v 19 ≤ nI i then _ else if nI i + 12 < 0 ∨ 48 ≤ (nI i + 12).toNatClampNeg then none else if nI i < 0 ∨ 48 ≤ (nI i).toNatClampNeg then none else F_Mo_feed_76 n (nI i + 1) v (va_up f 21 (upd (f 21) (nI i).toNatClampNeg ((f 21) (nI i + 12).toNatClampNeg).toInt16.toInt32))) = _
      rw [hv, if_neg (nI_ge (by omega) (by omega)), show (12 : Int32) = nI 12 from rfl, nI_add, if_neg (nI_in (by omega) (by decide)), if_neg (nI_in (by omega) (by decide)), nI_clamp (by omega), nI_clamp (by omega), nI_1]
    · rw [h2 j (by omega)]
      show upd (f 21) i _ j = _
      rw [pk_un (by omega)]
    · by_cases hji : j = i
      · subst hji
        rw [h2 j (by omega)]
        show upd (f 21) j _ j = _
        rw [pk_us]
      · rw [h3 j (by omega) hj2]
        show (upd (f 21) i _ (j + 12)).toInt16.toInt32 = _
        rw [pk_un (by omega)]
theorem dst_14 {N : Nat} {mv : Nat → Int32} {mf : Nat → Nat → Int32} {mi : Nat → Nat} {tv : Nat → Int32} {tf : Nat → Nat → Int32} {R L : Int32} (hN : N ≤ 1100000) (x : Int32) (h : rS N R L mv mf mi tv tf) : ∃ (mv1 : Nat → Int32) (mf1 : Nat → Nat → Int32) (tv1 : Nat → Int32) (tf1 : Nat → Nat → Int32), F_Do_take_14 (nI N) x mv mf mi = some (mv1, mf1, mi) ∧ F_Mo_put (nI 14) x tv tf = some (tv1, tf1) ∧ rD N R L mv mi tv tf mv1 mf1 tv1 tf1 ∧ mv1 13 = mv 13 := by
  obtain ⟨mvf, tvf, q1, q2, q3, q4⟩ := fail_ok 2 h
  obtain ⟨⟨a1, a2, a3, a4, a5, a6, a7, a8, a10, a11, a12⟩, hu, hr⟩ := h
  obtain ⟨c, n, e1, e2, e3, e4, e5, e6, e7, e8, e9, e10⟩ := a10
  have p1 : F_Mo_put (nI 14) x tv tf = Option.bind (F_Mo_feed tv tf) (fun z2 => some (z2.1, z2.2)) := rfl
  have p2 : F_Mo_feed_31 tv tf = some (tvf, tf) := by
    unfold F_Mo_feed_31
    rw [q2]
    rfl
  rw [p1]
  unfold F_Do_take_14 F_Mo_feed F_Re_feed F_Re_feed_22
  rw [e3, e5, e6, pk_sub e1]
  -- what is busy
  have hb : (((mv 45 = 0 ∧ tv 23 = -1) ∨ (∃ F, mv 45 = 1 ∧ mv 44 = nI F ∧ tv 23 = nI F ∧ F ≤ N ∧ F + 130 < N)) ∧ F_Re_busy (nI N) mv mf mi = some 0) ∨ (∃ F, tv 23 = nI F ∧ F ≤ N ∧ ¬ F + 130 < N ∧ F_Re_busy (nI N) mv mf mi = some 1) := by
    unfold F_Re_busy F_Re_busy_29
    rcases e10 with ⟨f1, f2⟩ | ⟨f1, F, n0, f2, f3, f4, f5, f6, f7, f8⟩
    · exact Or.inl ⟨Or.inl ⟨f1, f2⟩, by rw [f1, if_pos rfl]⟩
    · have e : mv 44 + 40 + 88 + 3 - 1 = nI (F + 130) := by
        rw [f3, show (40 : Int32) = nI 40 from rfl, show (88 : Int32) = nI 88 from rfl, show (3 : Int32) = nI 3 from rfl, nI_add, nI_add, nI_add]
        exact nI_pred (F + 130)
      rw [e, f1, if_neg i10]
      by_cases hF : F + 130 < N
      · exact Or.inl ⟨Or.inr ⟨F, rfl, f3, f4, f2, hF⟩, by rw [if_pos (nI_lt hF (by omega))]⟩
      · exact Or.inr ⟨F, f4, f2, hF, by rw [if_neg (nI_nlt (by omega) (by omega))]⟩
  rcases hb with ⟨hb, hbe⟩ | ⟨F, hb1, hb2, hb3, hbe⟩
  · rw [hbe, Option.bind_some, if_pos rfl]
    by_cases h12 : 12 ≤ c - n
    · -- a card is fed
      obtain ⟨g1, s1, s2, s3⟩ := feed39 12 0 100 tv tf rfl (by decide)
      have s0 : (va_up tv 19 (tv 19 - 12)) 19 = nI (c - n - 12) := by
        show tv 19 - 12 = _
        rw [e6, show (12 : Int32) = nI 12 from rfl, pk_sub h12]
      obtain ⟨g2, t1, t2, t3⟩ := feed76 (m := c - n - 12) (by omega) (c - n - 12) 0 100 (va_up tv 19 (tv 19 - 12)) (va_up tf 22 g1) s0 (by omega) (by omega)
      have hf : F_Mo_feed_37 tv tf = some (va_up (va_up (va_up tv 19 (tv 19 - 12)) 23 (tv 2)) 24 0, va_up (va_up tf 22 g1) 21 g2) := s1.trans t1
      have hR1 : R = -1 := by
        rcases hr with ⟨q, _⟩ | ⟨q, F, r, p, q1, q2, q3, q4, _⟩
        · exact q
        · rcases hb with ⟨hb, _⟩ | ⟨F', _, hb1, _, hb2, hb3⟩
          · rw [hb] at q; exact absurd q (by decide)
          · have : F' = F := (nI_eq (by omega) (by omega)).mp (hb1.symm.trans q1)
            subst this
            omega
      refine ⟨va_up (va_up (va_up (va_up (va_up mv 45 (1 : Int32)) 43 (nI n)) 42 (nI (n + 12))) 44 (nI N)) 46 (0 : Int32), mf, va_up (va_up (va_up tv 19 (tv 19 - 12)) 23 (tv 2)) 24 0, va_up (va_up tf 22 g1) 21 g2, ?_, ?_, ⟨⟨⟨a1, a2, a3, a4, a5, a6, a7, a8, ⟨c, n + 12, by omega, e2, e3, e4, rfl, ?_, e7, ?_, Or.inl rfl, Or.inr ⟨rfl, N, n, by omega, rfl, a2, rfl, by omega, ?_, ?_⟩⟩, a11, a12⟩, hu, ?_⟩, ⟨fun k hk => ?_, fun k hk => ?_⟩, fun k hk => ?_⟩, rfl⟩
      · rw [if_pos (show (12 : Int32) ≤ nI (c - n) from nI_le (a := 12) h12 (by omega)), Option.bind_some, if_neg i10, show (12 : Int32) = nI 12 from rfl, nI_add]
      · rw [if_neg (show ¬ nI (c - n) < (12 : Int32) from nI_nlt (b := 12) h12 (by omega))]
        rcases hb with ⟨_, hb⟩ | ⟨F', _, _, hb1, hb2, hb3⟩
        · rw [hb, if_pos (by decide), hf, Option.bind_some]
        · rw [hb1, if_neg (nI_pos (by omega)), show (130 : Int32) = nI 130 from rfl, nI_add, a2, if_pos (nI_lt hb3 (by omega)), hf, Option.bind_some, a2]
      · show tv 19 - 12 = _
        rw [e6, show (12 : Int32) = nI 12 from rfl, pk_sub h12]
        exact congrArg nI (by omega)
      · intro j hj
        show g2 j = _
        rw [t3 j (by omega) (by omega)]
        show (tf 21 (j + 12)).toInt16.toInt32 = _
        rw [e8 (j + 12) (by omega), show n + (j + 12) = n + 12 + j by omega]
        exact e7 _ (by omega)
      · intro j hj
        show g1 j = _
        rw [s3 j (by omega) hj, e8 j (by omega)]
        exact e7 _ (by omega)
      · intro r hr
        exact ⟨fun _ => bt_0 r, fun q _ => by omega⟩
      · exact Or.inl ⟨hR1, Or.inr ⟨N, by omega, rfl, fun r hr => Or.inl (by omega)⟩⟩
      · rw [va_up_ne _ _ (by omega), va_up_ne _ _ (by omega), va_up_ne _ _ (by omega)]
      · rw [va_up_ne _ _ (by omega), va_up_ne _ _ (by omega)]
      · rw [va_up_ne _ _ (by omega), va_up_ne _ _ (by omega), va_up_ne _ _ (by omega), va_up_ne _ _ (by omega), va_up_ne _ _ (by omega)]
    · refine ⟨mvf, mf, tvf, tf, ?_, ?_, q3, q4⟩
      · rw [if_neg (show ¬ (12 : Int32) ≤ nI (c - n) from nI_ge (b := 12) (by omega) (by decide)), Option.bind_some, if_pos rfl]
        show Option.bind (F_Ma_fail 2 mv mf mi) _ = _
        rw [q1]
        rfl
      · rw [if_pos (show nI (c - n) < (12 : Int32) from nI_lt (b := 12) (by omega) (by decide)), p2]
        rfl
  · refine ⟨mvf, mf, tvf, tf, ?_, ?_, q3, q4⟩
    · rw [hbe, Option.bind_some, if_neg i10, Option.bind_some, if_pos rfl]
      show Option.bind (F_Ma_fail 2 mv mf mi) _ = _
      rw [q1]
      rfl
    · rw [hb1, if_neg (show ¬ nI F < 0 from nI_pos (by omega)), show (130 : Int32) = nI 130 from rfl, nI_add, a2, if_neg (nI_nlt (by omega) (by omega)), p2]
      split <;> rfl
theorem dsts_1 {N : Nat} {mv : Nat → Int32} {mf : Nat → Nat → Int32} {mi : Nat → Nat} {tv : Nat → Int32} {tf : Nat → Nat → Int32} {R L : Int32} {q : Nat} (hN : N ≤ 1100000) (x : Int32) (hx : sh x) (h : rS N R L mv mf mi tv tf) (hv : mv 52 ≠ -1) (hq : q < 16) (hi : mi 3 = q) : ∃ (mv1 : Nat → Int32) (mf1 : Nat → Nat → Int32) (tv1 : Nat → Int32) (tf1 : Nat → Nat → Int32), F_Ma_move_1_25 1 x mv mf mi = some (mv1, mf1, mi) ∧ F_Mo_put (nI q) x tv tf = some (tv1, tf1) ∧ rD N R L mv mi tv tf mv1 mf1 tv1 tf1 := by
  have h8 : mv 8 = nI N := h.1.1
  have hcs : q = 0 ∨ q = 1 ∨ q = 2 ∨ q = 3 ∨ q = 4 ∨ q = 5 ∨ q = 6 ∨ q = 7 ∨ q = 8 ∨ q = 9 ∨ q = 10 ∨ q = 11 ∨ q = 12 ∨ q = 13 ∨ q = 14 ∨ q = 15 := by omega
  unfold F_Ma_move_1_25 F_Ma_move_1_46
  rw [h8, hi]
  rcases hcs with rfl | rfl | rfl | rfl | rfl | rfl | rfl | rfl | rfl | rfl | rfl | rfl | rfl | rfl | rfl | rfl
  · obtain ⟨mv1, mf1, tv1, tf1, z1, z2, z3, z4⟩ := dst_0 x h
    exact ⟨mv1, mf1, tv1, tf1, by rw [if_pos rfl, z1, Option.bind_some, if_neg i10], z2, z3⟩
  · obtain ⟨mv1, mf1, tv1, tf1, z1, z2, z3, z4⟩ := dst_1 x h
    exact ⟨mv1, mf1, tv1, tf1, by rw [if_neg (by decide), if_pos rfl, z1, Option.bind_some, if_neg i10], z2, z3⟩
  · obtain ⟨mv1, mf1, tv1, tf1, z1, z2, z3, z4⟩ := dst_2 hN x h
    exact ⟨mv1, mf1, tv1, tf1, by rw [if_neg (by decide), if_neg (by decide), if_pos rfl, z1, Option.bind_some, if_neg i10], z2, z3⟩
  · obtain ⟨mv1, mf1, tv1, tf1, z1, z2, z3, z4⟩ := dst_3 hN x h
    exact ⟨mv1, mf1, tv1, tf1, by rw [if_neg (by decide), if_neg (by decide), if_neg (by decide), if_pos rfl, z1, Option.bind_some, if_neg i10], z2, z3⟩
  · obtain ⟨mv1, mf1, tv1, tf1, z1, z2, z3, z4⟩ := dst_4 hN x h
    exact ⟨mv1, mf1, tv1, tf1, by rw [if_neg (by decide), if_neg (by decide), if_neg (by decide), if_neg (by decide), if_pos rfl, z1, Option.bind_some, if_neg i10], z2, z3⟩
  · obtain ⟨mv1, mf1, tv1, tf1, z1, z2, z3, z4⟩ := dst_5 hN x h
    exact ⟨mv1, mf1, tv1, tf1, by rw [if_neg (by decide), if_neg (by decide), if_neg (by decide), if_neg (by decide), if_neg (by decide), if_pos rfl, z1, Option.bind_some, if_neg i10], z2, z3⟩
  · obtain ⟨mv1, mf1, tv1, tf1, z1, z2, z3, z4⟩ := dst_6 hN x h
    exact ⟨mv1, mf1, tv1, tf1, by rw [if_neg (by decide), if_neg (by decide), if_neg (by decide), if_neg (by decide), if_neg (by decide), if_neg (by decide), if_pos rfl, z1, Option.bind_some, if_neg i10], z2, z3⟩
  · obtain ⟨mv1, mf1, tv1, tf1, z1, z2, z3, z4⟩ := dst_7 hN x h
    exact ⟨mv1, mf1, tv1, tf1, by rw [if_neg (by decide), if_neg (by decide), if_neg (by decide), if_neg (by decide), if_neg (by decide), if_neg (by decide), if_neg (by decide), if_pos rfl, z1, Option.bind_some, if_neg i10], z2, z3⟩
  · obtain ⟨mv1, mf1, tv1, tf1, z1, z2, z3, z4⟩ := dst_8 hN x h
    exact ⟨mv1, mf1, tv1, tf1, by rw [if_neg (by decide), if_neg (by decide), if_neg (by decide), if_neg (by decide), if_neg (by decide), if_neg (by decide), if_neg (by decide), if_neg (by decide), if_pos rfl, z1, Option.bind_some, if_neg i10], z2, z3⟩
  · obtain ⟨mv1, mf1, tv1, tf1, z1, z2, z3, z4⟩ := dst_9 x h
    exact ⟨mv1, mf1, tv1, tf1, by rw [if_neg (by decide), if_neg (by decide), if_neg (by decide), if_neg (by decide), if_neg (by decide), if_neg (by decide), if_neg (by decide), if_neg (by decide), if_neg (by decide), if_pos rfl, z1, Option.bind_some, if_neg i10], z2, z3⟩
  · obtain ⟨mv1, mf1, tv1, tf1, z1, z2, z3, z4⟩ := dst_10 x h
    exact ⟨mv1, mf1, tv1, tf1, by rw [if_neg (by decide), if_neg (by decide), if_neg (by decide), if_neg (by decide), if_neg (by decide), if_neg (by decide), if_neg (by decide), if_neg (by decide), if_neg (by decide), if_neg (by decide), if_pos rfl, z1, Option.bind_some, if_neg i10], z2, z3⟩
  · obtain ⟨mv1, mf1, tv1, tf1, z1, z2, z3⟩ := dst_11 hN x h hv
    exact ⟨mv1, mf1, tv1, tf1, by rw [if_neg (by decide), if_neg (by decide), if_neg (by decide), if_neg (by decide), if_neg (by decide), if_neg (by decide), if_neg (by decide), if_neg (by decide), if_neg (by decide), if_neg (by decide), if_neg (by decide), if_pos rfl, z1, Option.bind_some, if_neg i10], z2, z3⟩
  · obtain ⟨mv1, mf1, tv1, tf1, z1, z2, z3⟩ := dst_12 hN x h hv
    exact ⟨mv1, mf1, tv1, tf1, by rw [if_neg (by decide), if_neg (by decide), if_neg (by decide), if_neg (by decide), if_neg (by decide), if_neg (by decide), if_neg (by decide), if_neg (by decide), if_neg (by decide), if_neg (by decide), if_neg (by decide), if_neg (by decide), if_pos rfl, z1, Option.bind_some, if_neg i10], z2, z3⟩
  · obtain ⟨mv1, mf1, tv1, tf1, z1, z2, z3, z4⟩ := dst_13 x hx h
    exact ⟨mv1, mf1, tv1, tf1, by rw [if_neg (by decide), if_neg (by decide), if_neg (by decide), if_neg (by decide), if_neg (by decide), if_neg (by decide), if_neg (by decide), if_neg (by decide), if_neg (by decide), if_neg (by decide), if_neg (by decide), if_neg (by decide), if_neg (by decide), if_pos rfl, z1, Option.bind_some, if_neg i10], z2, z3⟩
  · obtain ⟨mv1, mf1, tv1, tf1, z1, z2, z3, z4⟩ := dst_14 hN x h
    exact ⟨mv1, mf1, tv1, tf1, by rw [if_neg (by decide), if_neg (by decide), if_neg (by decide), if_neg (by decide), if_neg (by decide), if_neg (by decide), if_neg (by decide), if_neg (by decide), if_neg (by decide), if_neg (by decide), if_neg (by decide), if_neg (by decide), if_neg (by decide), if_neg (by decide), if_pos rfl, z1, Option.bind_some, if_neg i10], z2, z3⟩
  · obtain ⟨mv1, mf1, tv1, tf1, z1, z2, z3, z4⟩ := dst_15 x h
    exact ⟨mv1, mf1, tv1, tf1, by rw [if_neg (by decide), if_neg (by decide), if_neg (by decide), if_neg (by decide), if_neg (by decide), if_neg (by decide), if_neg (by decide), if_neg (by decide), if_neg (by decide), if_neg (by decide), if_neg (by decide), if_neg (by decide), if_neg (by decide), if_neg (by decide), if_neg (by decide), if_pos rfl, z1, Option.bind_some, if_neg i10], z2, z3⟩
theorem dsts_0 {N : Nat} {mv : Nat → Int32} {mf : Nat → Nat → Int32} {mi : Nat → Nat} {tv : Nat → Int32} {tf : Nat → Nat → Int32} {R L : Int32} {q : Nat} (hN : N ≤ 1100000) (x : Int32) (hx : sh x) (h : rS N R L mv mf mi tv tf) (hq : q < 16) (hi : mi 1 = q) : ∃ (mv1 : Nat → Int32) (mf1 : Nat → Nat → Int32) (tv1 : Nat → Int32) (tf1 : Nat → Nat → Int32), F_Ma_move_0_25 0 x mv mf mi = some (mv1, mf1, mi) ∧ ((¬ (q = 11 ∨ q = 12) ∧ F_Mo_put (nI q) x tv tf = some (tv1, tf1)) ∨ ((q = 11 ∨ q = 12) ∧ tv1 = tv ∧ tf1 = tf)) ∧ rD N R L mv mi tv tf mv1 mf1 tv1 tf1 := by
  have h8 : mv 8 = nI N := h.1.1
  have h13 : mv 13 = 0 ∨ mv 13 = 1 := by
    obtain ⟨⟨a1, a2, a3, a4, a5, a6, a7, a8, a10, a11, a12⟩, hu, hr⟩ := h
    obtain ⟨D, b, l, A, Z, A0, Z0, g1, g2, g3, -⟩ := a12
    have hb : b = 0 ∨ b = 1 := by omega
    rcases hb with rfl | rfl
    · exact Or.inl g2
    · exact Or.inr g2
  have hcs : q = 0 ∨ q = 1 ∨ q = 2 ∨ q = 3 ∨ q = 4 ∨ q = 5 ∨ q = 6 ∨ q = 7 ∨ q = 8 ∨ q = 9 ∨ q = 10 ∨ q = 11 ∨ q = 12 ∨ q = 13 ∨ q = 14 ∨ q = 15 := by omega
  unfold F_Ma_move_0_25 F_Ma_move_0_46
  rw [h8, hi]
  rcases hcs with rfl | rfl | rfl | rfl | rfl | rfl | rfl | rfl | rfl | rfl | rfl | rfl | rfl | rfl | rfl | rfl
  · obtain ⟨mv1, mf1, tv1, tf1, z1, z2, z3, z4⟩ := dst_0 x h
    exact ⟨mv1, mf1, tv1, tf1, by rw [if_pos rfl, z1, Option.bind_some, if_pos rfl, if_pos h13, up_id mv1 13 _ z4], Or.inl ⟨by omega, z2⟩, z3⟩
  · obtain ⟨mv1, mf1, tv1, tf1, z1, z2, z3, z4⟩ := dst_1 x h
    exact ⟨mv1, mf1, tv1, tf1, by rw [if_neg (by decide), if_pos rfl, z1, Option.bind_some, if_pos rfl, if_pos h13, up_id mv1 13 _ z4], Or.inl ⟨by omega, z2⟩, z3⟩
  · obtain ⟨mv1, mf1, tv1, tf1, z1, z2, z3, z4⟩ := dst_2 hN x h
    exact ⟨mv1, mf1, tv1, tf1, by rw [if_neg (by decide), if_neg (by decide), if_pos rfl, z1, Option.bind_some, if_pos rfl, if_pos h13, up_id mv1 13 _ z4], Or.inl ⟨by omega, z2⟩, z3⟩
  · obtain ⟨mv1, mf1, tv1, tf1, z1, z2, z3, z4⟩ := dst_3 hN x h
    exact ⟨mv1, mf1, tv1, tf1, by rw [if_neg (by decide), if_neg (by decide), if_neg (by decide), if_pos rfl, z1, Option.bind_some, if_pos rfl, if_pos h13, up_id mv1 13 _ z4], Or.inl ⟨by omega, z2⟩, z3⟩
  · obtain ⟨mv1, mf1, tv1, tf1, z1, z2, z3, z4⟩ := dst_4 hN x h
    exact ⟨mv1, mf1, tv1, tf1, by rw [if_neg (by decide), if_neg (by decide), if_neg (by decide), if_neg (by decide), if_pos rfl, z1, Option.bind_some, if_pos rfl, if_pos h13, up_id mv1 13 _ z4], Or.inl ⟨by omega, z2⟩, z3⟩
  · obtain ⟨mv1, mf1, tv1, tf1, z1, z2, z3, z4⟩ := dst_5 hN x h
    exact ⟨mv1, mf1, tv1, tf1, by rw [if_neg (by decide), if_neg (by decide), if_neg (by decide), if_neg (by decide), if_neg (by decide), if_pos rfl, z1, Option.bind_some, if_pos rfl, if_pos h13, up_id mv1 13 _ z4], Or.inl ⟨by omega, z2⟩, z3⟩
  · obtain ⟨mv1, mf1, tv1, tf1, z1, z2, z3, z4⟩ := dst_6 hN x h
    exact ⟨mv1, mf1, tv1, tf1, by rw [if_neg (by decide), if_neg (by decide), if_neg (by decide), if_neg (by decide), if_neg (by decide), if_neg (by decide), if_pos rfl, z1, Option.bind_some, if_pos rfl, if_pos h13, up_id mv1 13 _ z4], Or.inl ⟨by omega, z2⟩, z3⟩
  · obtain ⟨mv1, mf1, tv1, tf1, z1, z2, z3, z4⟩ := dst_7 hN x h
    exact ⟨mv1, mf1, tv1, tf1, by rw [if_neg (by decide), if_neg (by decide), if_neg (by decide), if_neg (by decide), if_neg (by decide), if_neg (by decide), if_neg (by decide), if_pos rfl, z1, Option.bind_some, if_pos rfl, if_pos h13, up_id mv1 13 _ z4], Or.inl ⟨by omega, z2⟩, z3⟩
  · obtain ⟨mv1, mf1, tv1, tf1, z1, z2, z3, z4⟩ := dst_8 hN x h
    exact ⟨mv1, mf1, tv1, tf1, by rw [if_neg (by decide), if_neg (by decide), if_neg (by decide), if_neg (by decide), if_neg (by decide), if_neg (by decide), if_neg (by decide), if_neg (by decide), if_pos rfl, z1, Option.bind_some, if_pos rfl, if_pos h13, up_id mv1 13 _ z4], Or.inl ⟨by omega, z2⟩, z3⟩
  · obtain ⟨mv1, mf1, tv1, tf1, z1, z2, z3, z4⟩ := dst_9 x h
    exact ⟨mv1, mf1, tv1, tf1, by rw [if_neg (by decide), if_neg (by decide), if_neg (by decide), if_neg (by decide), if_neg (by decide), if_neg (by decide), if_neg (by decide), if_neg (by decide), if_neg (by decide), if_pos rfl, z1, Option.bind_some, if_pos rfl, if_pos h13, up_id mv1 13 _ z4], Or.inl ⟨by omega, z2⟩, z3⟩
  · obtain ⟨mv1, mf1, tv1, tf1, z1, z2, z3, z4⟩ := dst_10 x h
    exact ⟨mv1, mf1, tv1, tf1, by rw [if_neg (by decide), if_neg (by decide), if_neg (by decide), if_neg (by decide), if_neg (by decide), if_neg (by decide), if_neg (by decide), if_neg (by decide), if_neg (by decide), if_neg (by decide), if_pos rfl, z1, Option.bind_some, if_pos rfl, if_pos h13, up_id mv1 13 _ z4], Or.inl ⟨by omega, z2⟩, z3⟩
  · refine ⟨mv, mf, tv, tf, ?_, Or.inr ⟨by omega, rfl, rfl⟩, h, fT.rf, fun _ _ => rfl⟩
    rw [if_neg (by decide), if_neg (by decide), if_neg (by decide), if_neg (by decide), if_neg (by decide), if_neg (by decide), if_neg (by decide), if_neg (by decide), if_neg (by decide), if_neg (by decide), if_neg (by decide), if_pos rfl]
    unfold F_Do_take_11
    by_cases hc : 0 ≤ x
    · rw [if_pos hc, Option.bind_some, if_pos rfl, if_pos h13, up_id mv 13 _ rfl]
    · rw [if_neg hc, Option.bind_some, if_pos rfl, if_pos h13, up_up, up_id mv 13 _ rfl]
  · refine ⟨mv, mf, tv, tf, ?_, Or.inr ⟨by omega, rfl, rfl⟩, h, fT.rf, fun _ _ => rfl⟩
    rw [if_neg (by decide), if_neg (by decide), if_neg (by decide), if_neg (by decide), if_neg (by decide), if_neg (by decide), if_neg (by decide), if_neg (by decide), if_neg (by decide), if_neg (by decide), if_neg (by decide), if_neg (by decide), if_pos rfl]
    unfold F_Do_take_12
    by_cases hc : x = 0
    · rw [if_pos hc, Option.bind_some, if_pos rfl, if_pos h13, up_id mv 13 _ rfl]
    · rw [if_neg hc, Option.bind_some, if_pos rfl, if_pos h13, up_up, up_id mv 13 _ rfl]
  · obtain ⟨mv1, mf1, tv1, tf1, z1, z2, z3, z4⟩ := dst_13 x hx h
    exact ⟨mv1, mf1, tv1, tf1, by rw [if_neg (by decide), if_neg (by decide), if_neg (by decide), if_neg (by decide), if_neg (by decide), if_neg (by decide), if_neg (by decide), if_neg (by decide), if_neg (by decide), if_neg (by decide), if_neg (by decide), if_neg (by decide), if_neg (by decide), if_pos rfl, z1, Option.bind_some, if_pos rfl, if_pos h13, up_id mv1 13 _ z4], Or.inl ⟨by omega, z2⟩, z3⟩
  · obtain ⟨mv1, mf1, tv1, tf1, z1, z2, z3, z4⟩ := dst_14 hN x h
    exact ⟨mv1, mf1, tv1, tf1, by rw [if_neg (by decide), if_neg (by decide), if_neg (by decide), if_neg (by decide), if_neg (by decide), if_neg (by decide), if_neg (by decide), if_neg (by decide), if_neg (by decide), if_neg (by decide), if_neg (by decide), if_neg (by decide), if_neg (by decide), if_neg (by decide), if_pos rfl, z1, Option.bind_some, if_pos rfl, if_pos h13, up_id mv1 13 _ z4], Or.inl ⟨by omega, z2⟩, z3⟩
  · obtain ⟨mv1, mf1, tv1, tf1, z1, z2, z3, z4⟩ := dst_15 x h
    exact ⟨mv1, mf1, tv1, tf1, by rw [if_neg (by decide), if_neg (by decide), if_neg (by decide), if_neg (by decide), if_neg (by decide), if_neg (by decide), if_neg (by decide), if_neg (by decide), if_neg (by decide), if_neg (by decide), if_neg (by decide), if_neg (by decide), if_neg (by decide), if_neg (by decide), if_neg (by decide), if_pos rfl, z1, Option.bind_some, if_pos rfl, if_pos h13, up_id mv1 13 _ z4], Or.inl ⟨by omega, z2⟩, z3⟩
