theorem rVr.put {f tf : Nat → Nat → Int32} {s : Nat} {x : Int32} (hs : s < 64) (h : rVr f tf) : rVr (va_up f 3 (upd (f 3) s x)) tf := by
  obtain ⟨h1, h2, h3⟩ := h
  refine ⟨fun j hj => ?_, h2, h3⟩
  show tf 42 j = upd (f 3) s x (64 + j) ∧ _
  rw [pk_un (by omega)]
  exact h1 j hj
theorem rVr.of {f tf tf1 : Nat → Nat → Int32} (h : rVr f tf) (h1 : tf1 42 = tf 42) (h2 : tf1 43 = tf 43) : rVr f tf1 := by
  unfold rVr
  rw [h1, h2]
  exact h
/-- the put that ends placing, in both -/
theorem place_end {t : Nat → Nat → Int32} {kd nx : Nat → Nat} {go : Nat → Int32} {i fr s w a b : Nat} {v : Nat → Int32} {f u tf f1 tf1 : Nat → Nat → Int32} {la : Nat → Option Nat} (x3 : Int32) (hi : i < 37) (hJ : J0 i fr v f u tf) (hS : S0 kd nx go i u la tf) (hs : s < 64) (hw : w < 32) (ha : tf 35 i = nI a) (ha2 : a < 16) (hb : tf 36 i = nI b) (hb2 : b < 16)
    (hf : ∀ k, k ≠ 3 → k ≠ 4 → f1 k = f k) (hf3 : ∀ j, j < 64 → f1 3 j = f 3 j) (hT : ∀ k, (k < 39 ∨ 43 < k) → tf1 k = tf k) (hT1 : tf1 41 = upd (tf 41) s 1) (hT39 : tf1 39 = upd (tf 39) i (nI s)) (hT40 : tf1 40 = upd (tf 40) i (nI w)) (hV : rVr f1 tf1) :
    ∃ fr1 v1 f2 u1, F_As_place_74 t (nI a) (nI b) x3 (nI s) (nI (s % 32)) (nI w) v f1 u la = some (some i, v1, f2, u1, va_up la 0 (some i)) ∧ ((nI s + 2) + nI w) &&& 31 = nI fr1 ∧ J0 (i + 1) fr1 v1 f2 u1 tf1 ∧ (∀ j, j < i → sLed kd nx go u1 tf1 j ∧ (kd j = 0 → nx j < i + 1)) ∧ u1 i 2 = bse tf1 i ∧ u1 i 4 = -1 ∧ pF i f f2 tf tf1 v v1 := by
  have hJ' := hJ
  obtain ⟨j1, j2, j3, j4, ⟨m, j5, j6, j7⟩, j8, j9, j10⟩ := hJ
  have hbs : bse tf1 i = (nI a ||| (nI b <<< ((4 : Int32) &&& 31))) ||| (nI w <<< ((10 : Int32) &&& 31)) := by
    unfold bse
    rw [hT 35 (by decide), hT 36 (by decide), ha, hb, hT40, pk_us]
  obtain ⟨v1, u1, m1, p1, p2, p3, p4, p5, p6, p7⟩ := put_ok (t := t) (v := va_up v 8 (nI ((s % 32 + 2 + w) % 32))) (f := f1) (u := u) (la := la) (i := i) (m := m) (l := s / 32) (p := s % 32) ((nI a ||| (nI b <<< ((4 : Int32) &&& 31))) ||| (nI w <<< ((10 : Int32) &&& 31))) j5 j6 hi j2 j7 (by omega) (by omega) hS.2
  have hF : pF i f (va_up f1 3 (upd (f1 3) (32 * (s / 32) + s % 32) 1)) tf tf1 v v1 := by
    refine ⟨hT, fun k k1 k2 => (va_up_ne _ _ k1).trans (hf k k1 k2), fun k k1 k2 k3 k4 => (p6 k k1 k4).trans (va_up_ne _ _ k2), fun j hj => ?_⟩
    rw [hT39, hT40, pk_un (by omega), pk_un (by omega)]
    exact ⟨rfl, rfl⟩
  have h39 : tf1 39 i = nI (32 * (s / 32) + s % 32) := by
    rw [hT39, pk_us]
    exact congrArg nI (by omega)
  obtain ⟨q1, q2⟩ := put_led hJ' hS p7 (by omega) (by omega) h39 hF
  obtain ⟨r1, r2, r3, r4, r5, r6⟩ := p7
  obtain ⟨nb, e1, e2⟩ := bse_n ha2 hb2 hw
  refine ⟨(s % 32 + 2 + w) % 32, v1, va_up f1 3 (upd (f1 3) (32 * (s / 32) + s % 32) 1), u1, ?_, ?_, ⟨?_, p5, ?_, Nat.mod_lt _ (by decide), ⟨m1, p2, p3, p4⟩, ?_, ?_, ?_⟩, q1, by rw [hbs]; exact r3, r4, hF⟩
  · unfold F_As_place_74
    rw [show nI s / (32 : Int32) = nI (s / 32) from pk_div (d := 32) (by omega) (by decide) (by decide), i2, nI_add, nI_add, r32 (by omega), p1]
    rfl
  · rw [i2, nI_add, nI_add, m31 (by omega)]
    exact congrArg nI (by omega)
  · rw [p6 9 (by decide) (by decide)]
    exact j1
  · rw [p6 8 (by decide) (by decide)]
    rfl
  · intro j hj
    show tf1 41 j = upd (f1 3) (32 * (s / 32) + s % 32) 1 j
    rw [hT1, show 32 * (s / 32) + s % 32 = s by omega]
    by_cases hjs : j = s
    · subst hjs; rw [pk_us, pk_us]
    · rw [pk_un hjs, pk_un hjs, hf3 j hj]
      exact j8 j hj
  · exact hV.put (by omega)
  · intro j hj
    by_cases hji : j = i
    · subst hji
      refine ⟨s, nb, hs, e1, by rw [hT39, pk_us], by rw [hbs]; exact e2, r1, r2⟩
    · exact q2 j (by omega)
