theorem ord_ok {t : Nat → Nat → Int32} {kd nx : Nat → Nat} {go : Nat → Int32} {i fr a b Lz : Nat} {v tv : Nat → Int32} {f u tf : Nat → Nat → Int32} {la : Nat → Option Nat} (x3 : Int32) (n : Nat) (hi : i < 37) (hJ : J0 i fr v f u tf) (hS : S0 kd nx go i u la tf) (ha : tf 35 i = nI a) (ha2 : a < 16) (hb : tf 36 i = nI b) (hb2 : b < 16) (hab : ¬ (a = 0 ∧ b = 0)) (hx : tf 37 i = x3) (hx2 : x3 = -1 ∨ ∃ c, c < 16 ∧ x3 = nI c) (hL : tv 34 = nI Lz) (hiL : i < Lz) (hL2 : Lz ≤ 64) (hk : kd i = 0) (hn : nx i = i + 1) :
    (F_As_place t (nI a) (nI b) x3 v f u la = some (none, va_up v 9 0, f, u, la) ∧ F_Mo_place_67 (n + 1) (nI fr) (nI i) tv tf = some (0, tv, tf)) ∨
    (∃ fr1 v1 f1 u1 la1 tf1, F_As_place t (nI a) (nI b) x3 v f u la = some (some i, v1, f1, u1, la1) ∧ F_Mo_place_67 (n + 1) (nI fr) (nI i) tv tf = F_Mo_place_67 n (nI fr1) (nI (i + 1)) tv tf1 ∧ J0 (i + 1) fr1 v1 f1 u1 tf1 ∧ S0 kd nx go (i + 1) u1 la1 tf1 ∧ pF i f f1 tf tf1 v v1 ∧ la1 0 ≠ none) := by
  rcases place_ok (t := t) (tv := tv) x3 n hi hJ hS ha ha2 hb hb2 hab hx hx2 hL hiL hL2 with h | ⟨fr1, v1, f1, u1, tf1, q1, q2, q3, q4, q5, q6, q7, q8⟩
  · exact Or.inl h
  · refine Or.inr ⟨fr1, v1, f1, u1, va_up la 0 (some i), tf1, q1, q2, q3, ⟨fun j hj => ?_, fun j q => ?_⟩, q7, fun q => by rw [va_up_self] at q; cases q⟩
    · by_cases hji : j = i
      · subst hji
        exact Or.inr ⟨hk, hn, va_up_self _ _ _, q5, q6⟩
      · refine Or.inl ⟨(q4 j (by omega)).1, (q4 j (by omega)).2, fun q => ?_⟩
        rw [va_up_self] at q
        exact hji (Option.some.inj q).symm
    · rw [va_up_self] at q
      have := Option.some.inj q
      omega
theorem stop_ok {t : Nat → Nat → Int32} {kd nx : Nat → Nat} {go : Nat → Int32} {i fr Lz : Nat} {v tv : Nat → Int32} {f u tf : Nat → Nat → Int32} {la : Nat → Option Nat} (n : Nat) (hi : i < 37) (hJ : J0 i fr v f u tf) (hS : S0 kd nx go i u la tf) (ha : tf 35 i = nI 0) (hb : tf 36 i = nI 1) (hx : tf 37 i = -1) (hL : tv 34 = nI Lz) (hiL : i < Lz) (hL2 : Lz ≤ 64) (hk : kd i = 1) :
    (F_As_stop t v f u la = some (va_up v 9 0, f, u, la) ∧ F_Mo_place_67 (n + 1) (nI fr) (nI i) tv tf = some (0, tv, tf)) ∨
    (∃ fr1 v1 f1 u1 la1 tf1, F_As_stop t v f u la = some (v1, f1, u1, la1) ∧ F_Mo_place_67 (n + 1) (nI fr) (nI i) tv tf = F_Mo_place_67 n (nI fr1) (nI (i + 1)) tv tf1 ∧ J0 (i + 1) fr1 v1 f1 u1 tf1 ∧ S0 kd nx go (i + 1) u1 la1 tf1 ∧ pF i f f1 tf tf1 v v1 ∧ la1 0 = none) := by
  unfold F_As_stop
  rcases place_ok (t := t) (tv := tv) (-1) n hi hJ hS ha (by decide) hb (by decide) (by decide) hx (Or.inl rfl) hL hiL hL2 with ⟨h1, h2⟩ | ⟨fr1, v1, f1, u1, tf1, q1, q2, q3, q4, q5, q6, q7, q8⟩
  · have h1 : F_As_place t 0 1 (-1) v f u la = some (none, va_up v 9 0, f, u, la) := h1
    refine Or.inl ⟨?_, h2⟩
    rw [h1, Option.bind_some]
    rfl
  · have q1 : F_As_place t 0 1 (-1) v f u la = some (some i, v1, f1, u1, va_up la 0 (some i)) := q1
    obtain ⟨j1, j2, j3, j4, ⟨m, j5, j6, j7⟩, j8, j9, j10⟩ := q3
    have hb1 : u1 i 2 ||| 1015808 = 1015824 := by
      rw [q5]
      unfold bse
      rw [q7.1 35 (by decide), q7.1 36 (by decide), ha, hb, q8 rfl]
      decide
    refine Or.inr ⟨fr1, v1, f1, va_up u1 i (va_up (u1 i) 2 (u1 i 2 ||| 1015808)), va_up (va_up la 0 (some i)) 0 none, tf1, ?_, q2, ⟨j1, j2, j3, j4, ⟨m, j5, j6, j7⟩, j8, j9, fun j hj => ?_⟩, ⟨fun j hj => ?_, fun j q => by rw [va_up_self] at q; cases q⟩, q7, va_up_self _ _ _⟩
    · rw [q1, Option.bind_some]
      show (if (v1 20).toNatClampNeg ≤ i then none else if (v1 20).toNatClampNeg ≤ i then none else some (v1, f1, va_up u1 i (va_up (u1 i) 2 (u1 i 2 ||| 1015808)), va_up (va_up la 0 (some i)) 0 none)) = _
      have d1 : ¬ (v1 20).toNatClampNeg ≤ i := by rw [j7, nI_clamp (by omega)]; omega
      rw [if_neg d1, if_neg d1]
    · obtain ⟨s, k, c1, c2, c3, c4, c5, c6⟩ := j10 j hj
      by_cases hji : j = i
      · subst hji
        rw [va_up_self]
        exact ⟨s, k, c1, c2, c3, c4, c5, c6⟩
      · rw [va_up_ne _ _ hji]
        exact ⟨s, k, c1, c2, c3, c4, c5, c6⟩
    · refine Or.inl ?_
      by_cases hji : j = i
      · subst hji
        refine ⟨⟨fun q => by omega, fun _ => ?_, fun q => by omega, fun _ => ?_⟩, fun q => by omega, fun q => by rw [va_up_self] at q; cases q⟩
        · rw [va_up_self, va_up_self, hb1]
        · rw [va_up_self, va_up_ne _ _ (by decide)]
          exact q6
      · refine ⟨?_, (q4 j (by omega)).2, fun q => by rw [va_up_self] at q; cases q⟩
        unfold sLed
        rw [va_up_ne _ _ hji]
        exact (q4 j (by omega)).1
