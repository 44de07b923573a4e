theorem lr_of {B N : Nat} {mv : Nat → Int32} {mf : Nat → Nat → Int32} {mi : Nat → Nat} {t : Nat → Nat → Int32} {v : Nat → Int32} {f u : Nat → Nat → Int32} {la : Nat → Option Nat} {tv : Nat → Int32} {tf : Nat → Nat → Int32} (hN : N ≤ B) (h : rM N mv mf mi tv tf) (h2 : rA t v f tv tf) : LRel B mv mf mi t v f u la tv tf := ⟨⟨N, hN, h⟩, h2⟩
theorem lr_ops : LOps LRel := by
  refine ⟨?_, ?_, ?_, ?_, ?_, ?_, ?_, ?_, ?_, ?_, ?_, ?_, ?_, ?_, ?_⟩
  · intro B x1 x2 x3 mv mf mi t v f u la tv tf hB h
    obtain ⟨⟨N, hN, hM⟩, hA⟩ := h
    obtain ⟨r, mf1, tf1, a1, a2, a3, a4⟩ := order_ok x1 x2 x3 hM
    exact ⟨r, mv, mf1, mi, tv, tf1, a1, a2, lr_of hN a3 (hA.fT a4)⟩
  · intro B x1 x2 x3 mv mf mi t v f u la tv tf hB h
    obtain ⟨⟨N, hN, hM⟩, hA⟩ := h
    obtain ⟨r, mf1, tf1, a1, a2, a3, a4⟩ := word_ok x1 x2 x3 hM
    exact ⟨r, mv, mf1, mi, tv, tf1, a1, a2, lr_of hN a3 (hA.fT a4)⟩
  · intro B x1 mv mf mi t v f u la tv tf hB h
    obtain ⟨⟨N, hN, hM⟩, hA⟩ := h
    obtain ⟨r, mv1, mf1, tv1, tf1, a1, a2, a3, a4⟩ := card_ok x1 hM
    exact ⟨r, mv1, mf1, mi, tv1, tf1, a1, a2, lr_of hN a3 (hA.fT a4)⟩
  · intro B x1 x2 mv mf mi t v f u la tv tf hB h
    obtain ⟨⟨N, hN, hM⟩, hA⟩ := h
    obtain ⟨r, mv1, tv1, a1, a2, a3, a4⟩ := start_ok x1 x2 (by omega) hM
    exact ⟨r, mv1, mf, mi, tv1, tf, a1, a2, lr_of hN a3 (hA.fT a4)⟩
  · intro B x1 hh mv mf mi t v f u la tv tf hB h
    obtain ⟨⟨N, hN, hM⟩, hA⟩ := h
    obtain ⟨r, N1, h1, mv1, mf1, mi1, tv1, tf1, a1, a2, a3, a4, a5⟩ := run_ok x1 hh (by omega) hM
    exact ⟨r, h1, mv1, mf1, mi1, tv1, tf1, a1, a2, lr_of (by omega) a4 (hA.fT a5)⟩
  · intro B x1 mv mf mi t v f u la tv tf h
    obtain ⟨⟨N, hN, hM⟩, hA⟩ := h
    exact look_ok x1 hM
  · intro B x1 x2 mv mf mi t v f u la tv tf h
    obtain ⟨⟨N, hN, hM⟩, hA⟩ := h
    exact peek_ok x1 x2 hM
  · intro B x1 x2 mv mf mi t v f u la tv tf h
    obtain ⟨⟨N, hN, hM⟩, hA⟩ := h
    exact read_ok x1 x2 hM
  · intro B x1 mv mf mi t v f u la tv tf h
    obtain ⟨⟨N, hN, hM⟩, hA⟩ := h
    exact punched_ok x1 hM
  · intro B x1 x2 x3 x4 x5 mv mf mi t v f u la tv tf h
    obtain ⟨⟨N, hN, hM⟩, hA⟩ := h
    obtain ⟨r, t1, v1, tv1, tf1, a1, a2, a3, a4, a5⟩ := statement_ok (u := u) (la := la) x1 x2 x3 x4 x5 hA
    refine ⟨r, t1, v1, tv1, tf1, a1, a2, lr_of hN (hM.keep a4 (fun k hk _ => a5 k hk) (fun _ _ => rfl) ?_) a3⟩
    rw [a5 0 (by decide)]
    exact hM.2.2.2.2.2.1
  · intro B mv mf mi t v f u la tv tf h
    obtain ⟨⟨N, hN, hM⟩, hA⟩ := h
    refine ⟨va_up tv 28 0, tf, rfl, lr_of hN (hM.keep (fun k hk => va_up_ne _ _ (by omega)) (fun _ _ _ => rfl) (fun _ _ => rfl) hM.2.2.2.2.2.1) ?_⟩
    obtain ⟨⟨n, h1, h2, h3, h4⟩, h5, h6⟩ := hA
    refine ⟨⟨0, by decide, va_up_self _ _ _, va_up_self _ _ _, fun i hi => absurd hi (Nat.not_lt_zero _)⟩, ?_, ?_⟩
    · rw [va_up_ne _ _ (by decide)]
      exact h5
    · rw [va_up_ne _ _ (by decide)]
      exact h6
  · intro B mv mf mi t v f u la tv tf h
    obtain ⟨⟨N, hN, hM⟩, hA⟩ := h
    obtain ⟨r, mf1, v1, f1, u1, la1, tv1, tf1, a1, a2, a3, a4⟩ := assemble_ok (u := u) (la := la) hM hA
    exact ⟨r, mf1, v1, f1, u1, la1, tv1, tf1, a1, a2, lr_of hN a3 a4⟩
  · intro B x1 mv mf mi t v f u la tv tf h
    exact placed_ok x1 h.2
  · intro B x1 mv mf mi t v f u la tv tf h
    exact variable_ok x1 h.2
  · intro B B1 mv mf mi t v f u la tv tf hB h
    obtain ⟨⟨N, hN, hM⟩, hA⟩ := h
    exact lr_of (Nat.le_trans hN hB) hM hA
theorem as_21 : (as_R.get as_some).1 21 = 0 := by decide +kernel
theorem as_20 : (as_R.get as_some).1 20 = 0 := by decide +kernel
theorem as_6 : ∀ j : Fin 16, tw_f0 46 j.val = (as_R.get as_some).2.1 6 j.val := by decide +kernel
theorem as_7 : ∀ j : Fin 12, (as_R.get as_some).2.1 7 j.val = -1 := by decide +kernel
theorem lr_0 : LRel 0 dm_v0 (fun _ _ => 0) (fun _ => 16) (fun _ _ => 0) (as_R.get as_some).1 (as_R.get as_some).2.1 (as_R.get as_some).2.2.1 (as_R.get as_some).2.2.2 tw_v0 tw_f0 := by
  have s0 : sh 0 := by decide
  refine lr_of (N := 0) (Nat.le_refl _) ⟨rfl, rfl, rfl, rfl, Or.inl rfl, fun j _ => ⟨rfl, 0, by decide, rfl⟩, fun k j _ => ⟨rfl, s0⟩, ⟨rfl, ⟨0, Nat.le_refl _, rfl⟩, fun _ => ⟨rfl, rfl⟩, fun q => absurd rfl q⟩, ⟨rfl, ⟨0, by decide, rfl⟩, rfl⟩, ⟨0, 0, Nat.le_refl _, by decide, rfl, rfl, rfl, rfl, fun j hj => absurd hj (Nat.not_lt_zero _), fun j hj => absurd hj (Nat.not_lt_zero _), Or.inl rfl, Or.inl ⟨rfl, rfl⟩⟩, ⟨rfl, rfl, ⟨0, by decide, rfl, fun j hj => absurd hj (Nat.not_lt_zero _)⟩, Or.inl rfl⟩, fun q => absurd q (by decide)⟩ ?_
  exact ⟨⟨0, by decide, as_21, rfl, fun i hi => absurd hi (Nat.not_lt_zero _)⟩, ⟨0, by decide, as_20⟩, fun j hj => as_6 ⟨j, hj⟩, 0, by decide, rfl, fun j hj => absurd hj (Nat.not_lt_zero _), fun j _ hj => as_7 ⟨j, hj⟩⟩
