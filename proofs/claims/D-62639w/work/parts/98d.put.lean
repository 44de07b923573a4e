/-- what the model writes for an order with 'o' = b at p that leads to s -/
def ldx (b p s : Int32) : Int32 := (b ||| ((((s - p) - 2) &&& 31) <<< ((15 : Int32) &&& 31))) ||| ((s >>> ((5 : Int32) &&& 31)) <<< ((20 : Int32) &&& 31))
/-- what the component's lead makes of it -/
def cld (b p x1 x2 : Int32) : Int32 := ((b &&& (32767 : Int32)) ||| ((((x2 - p) - 2) &&& 31) <<< ((15 : Int32) &&& 31))) ||| (x1 <<< ((20 : Int32) &&& 31))
theorem tm_eq : ∀ s p : Fin 64, ((nI (s.val % 32) - nI (p.val % 32)) - 2) &&& 31 = ((nI s.val - nI p.val) - 2) &&& (31 : Int32) := by decide +kernel
theorem lead_eq {n s p : Nat} (hn : n < 32768) (hs : s < 64) (hp : p < 64) : cld (nI n) (nI (p % 32)) (nI (s / 32)) (nI (s % 32)) = ldx (nI n) (nI p) (nI s) := by
  unfold cld ldx
  rw [tm_eq ⟨s, hs⟩ ⟨p, hp⟩, pk_andN (n := n) (by omega) 15 (by decide), Nat.mod_eq_of_lt (show n < 2 ^ 15 by omega), pk_shrN (n := s) (by omega) _ 5 (by decide)]
theorem get_p {t : Nat → Nat → Int32} {v : Nat → Int32} {f : Nat → Nat → Int32} {u : Nat → Nat → Int32} {la : Nat → Option Nat} {i m : Nat} (hm : m ≤ 37) (hi : i < m) (h20 : v 20 = nI m) : F_AL_get_p t (nI i) v f u la = some i := by
  unfold F_AL_get_p F_AL_eld_p F_Ob_check F_Pc_check
  rw [h20, if_neg (nI_pos (by omega)), if_pos (nI_lt hi (by omega)), nI_clamp (n := m) (by omega), if_neg (show ¬ (nI i < 0 ∨ m ≤ (nI i).toNatClampNeg) from nI_in hi (by omega)), nI_clamp (by omega)]
  rfl
theorem be_ok {t : Nat → Nat → Int32} {v : Nat → Int32} {f : Nat → Nat → Int32} {u : Nat → Nat → Int32} {la : Nat → Option Nat} {i m : Nat} (x1 x2 x3 : Int32) (hm : m ≤ 37) (hi : i < m) (h20 : v 20 = nI m) :
    ∃ U, F_Pl_be t i x1 x2 x3 v f u la = some (i, v, f, U, la) ∧ U i 0 = x1 ∧ U i 1 = x2 ∧ U i 2 = x3 ∧ U i 4 = -1 ∧ ∀ j, j ≠ i → U j = u j := by
  unfold F_Pl_be
  have hmi : ¬ m ≤ i := by omega
  rw [h20, nI_clamp (by omega), if_neg hmi, if_neg hmi, if_neg hmi, if_neg hmi, if_neg hmi]
  refine ⟨_, rfl, ?_, ?_, ?_, ?_, ?_⟩
  · simp [va_up]
  · simp [va_up]
  · simp [va_up]
  · simp [va_up]
  · intro j hj
    simp [va_up, hj]
theorem leadf_ok {t : Nat → Nat → Int32} {v : Nat → Int32} {f : Nat → Nat → Int32} {u : Nat → Nat → Int32} {la : Nat → Option Nat} {i m : Nat} (x1 x2 : Int32) (hm : m ≤ 37) (hi : i < m) (h20 : v 20 = nI m) :
    ∃ U, F_Pl_lead t i x1 x2 v f u la = some (v, f, U, la) ∧ U i 0 = u i 0 ∧ U i 1 = u i 1 ∧ U i 2 = cld (u i 2) (u i 1) x1 x2 ∧ U i 4 = u i 4 ∧ ∀ j, j ≠ i → U j = u j := by
  unfold F_Pl_lead
  have hmi : ¬ m ≤ i := by omega
  rw [h20, nI_clamp (by omega), if_neg hmi, if_neg hmi, if_neg hmi, if_neg hmi]
  refine ⟨_, rfl, ?_, ?_, ?_, ?_, ?_⟩
  · simp [va_up]
  · simp [va_up]
  · simp [va_up, cld]
  · simp [va_up]
  · intro j hj
    simp [va_up, hj]
def putR (i l p : Nat) (x3 : Int32) (u : Nat → Nat → Int32) (la : Nat → Option Nat) (u1 : Nat → Nat → Int32) : Prop :=
  u1 i 0 = nI l ∧ u1 i 1 = nI p ∧ u1 i 2 = x3 ∧ u1 i 4 = -1 ∧ (∀ j, j < i → la 0 ≠ some j → u1 j = u j) ∧ ∀ j, la 0 = some j → u1 j 0 = u j 0 ∧ u1 j 1 = u j 1 ∧ u1 j 2 = cld (u j 2) (u j 1) (nI l) (nI p) ∧ u1 j 4 = u j 4
theorem put29 {t : Nat → Nat → Int32} {v : Nat → Int32} {f : Nat → Nat → Int32} {u : Nat → Nat → Int32} {la : Nat → Option Nat} {i m l p : Nat} (x3 : Int32) (hm : m ≤ 37) (hi : i < m) (h2 : v 2 = nI i) (h20 : v 20 = nI m) (hl : l < 2) (hp : p < 32) (hla : ∀ j, la 0 = some j → j < i) :
    ∃ u1, F_As_put_29 t (nI l) (nI p) x3 v f u la = some (i, va_up v 2 (nI (i + 1)), va_up f 3 (upd (f 3) (32 * l + p) 1), u1, va_up la 0 (some i)) ∧ putR i l p x3 u la u1 := by
  obtain ⟨U, b1, b2, b3, b4, b5, b6⟩ := be_ok (t := t) (v := v) (f := f) (u := u) (la := la) (nI l) (nI p) x3 hm hi h20
  unfold F_As_put_29 F_As_put_89
  rw [h2, get_p hm hi h20, Option.bind_some, h20, nI_clamp (n := m) (by omega), if_neg (show ¬ m ≤ i by omega), if_neg (show ¬ m ≤ i by omega), b1, Option.bind_some, ord_ix hl hp, if_neg (nI_in (by omega) (by decide)), nI_clamp (n := 32 * l + p) (by omega), i11]
  rcases hj : la 0 with _ | j
  · refine ⟨U, ?_, b2, b3, b4, b5, fun j hji _ => b6 j (by omega), fun j q => by rw [hj] at q; cases q⟩
    refine (dm_ocn (o := la 0) hj).trans ?_
    show some (i, va_up v 2 (v 2 + 1), _) = _
    rw [h2, nI_1]
  · have hji := hla j hj
    obtain ⟨U2, c1, c2, c3, c4, c5, c6⟩ := leadf_ok (t := t) (v := va_up v 2 (nI (i + 1))) (f := va_up f 3 (upd (f 3) (32 * l + p) 1)) (u := U) (la := la) (i := j) (nI l) (nI p) hm (by omega) h20
    refine ⟨U2, ?_, ?_, ?_, ?_, ?_, ?_, ?_⟩
    · refine (dm_ocs (o := la 0) hj).trans ?_
      show (if (v 20).toNatClampNeg ≤ j then none else Option.bind (F_Pl_lead t j (nI l) (nI p) (va_up v 2 (v 2 + 1)) (va_up f 3 (upd (f 3) (32 * l + p) 1)) U la) _) = _
      rw [h20, nI_clamp (by omega), if_neg (by omega), h2, nI_1, c1]
      rfl
    · rw [c6 i (by omega)]; exact b2
    · rw [c6 i (by omega)]; exact b3
    · rw [c6 i (by omega)]; exact b4
    · rw [c6 i (by omega)]; exact b5
    · intro k hk hk2
      have : k ≠ j := fun q => hk2 (by rw [hj, q])
      rw [c6 k this, b6 k (by omega)]
    · intro k hk
      rw [hj] at hk
      cases hk
      rw [c2, c3, c4, c5, b6 j (by omega)]
      exact ⟨rfl, rfl, rfl, rfl⟩
theorem put_ok {t : Nat → Nat → Int32} {v : Nat → Int32} {f : Nat → Nat → Int32} {u : Nat → Nat → Int32} {la : Nat → Option Nat} {i m l p : Nat} (x3 : Int32) (hm : m ≤ 37) (hi : i ≤ m) (hi2 : i < 37) (h2 : v 2 = nI i) (h20 : v 20 = nI m) (hl : l < 2) (hp : p < 32) (hla : ∀ j, la 0 = some j → j < i) :
    ∃ (v1 : Nat → Int32) (u1 : Nat → Nat → Int32) (m1 : Nat), F_As_put t (nI l) (nI p) x3 v f u la = some (i, v1, va_up f 3 (upd (f 3) (32 * l + p) 1), u1, va_up la 0 (some i)) ∧ m1 ≤ 37 ∧ i + 1 ≤ m1 ∧ v1 20 = nI m1 ∧ v1 2 = nI (i + 1) ∧ (∀ k, k ≠ 2 → k ≠ 20 → v1 k = v k) ∧ putR i l p x3 u la u1 := by
  unfold F_As_put F_AL_size_p
  rw [Option.bind_some, h2, h20]
  by_cases him : i = m
  · subst him
    have hall : Option.all (fun j => decide (j < (nI i).toNatClampNeg)) (la 0) = true := by
      rcases hj : la 0 with _ | j
      · rfl
      · show decide (j < (nI i).toNatClampNeg) = true
        rw [nI_clamp (by omega)]
        exact decide_eq_true (hla j hj)
    rw [if_pos rfl, if_pos hall, nI_clamp (by omega), if_neg (by omega), nI_1]
    obtain ⟨u1, c1, c2, c3, c4, c5, c6, c7⟩ := put29 (t := t) (v := va_up v 20 (nI (i + 1))) (f := f) (u := va_up u i (fun _ => 0)) (la := la) (m := i + 1) (i := i) x3 (by omega) (by omega) h2 rfl hl hp hla
    refine ⟨_, u1, i + 1, c1, by omega, by omega, rfl, rfl, fun k k1 k2 => (va_up_ne _ _ k1).trans (va_up_ne _ _ k2), c2, c3, c4, c5, ?_, ?_⟩
    · intro j hj hj2
      rw [c6 j hj hj2, va_up_ne _ _ (by omega)]
    · intro j hj
      have := hla j hj
      have := c7 j hj
      rw [va_up_ne _ _ (by omega)] at this
      exact this
  · rw [if_neg (fun q => him ((nI_eq (by omega) (by omega)).mp q))]
    obtain ⟨u1, c1, c2⟩ := put29 (t := t) (v := v) (f := f) (u := u) (la := la) (m := m) (i := i) x3 hm (by omega) h2 h20 hl hp hla
    exact ⟨_, u1, m, c1, hm, by omega, h20, rfl, fun k k1 k2 => va_up_ne _ _ k1, c2⟩
