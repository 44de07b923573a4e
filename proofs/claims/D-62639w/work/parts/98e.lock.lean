/-- the model's 'o' of order j -/
def bse (tf : Nat → Nat → Int32) (j : Nat) : Int32 := (tf 35 j ||| (tf 36 j <<< ((4 : Int32) &&& 31))) ||| (tf 40 j <<< ((10 : Int32) &&& 31))
theorem nI_or (a b : Nat) (ha : a < 2 ^ 32) (hb : b < 2 ^ 32) : nI a ||| nI b = nI (a ||| b) := by
  apply Int32.toBitVec_inj.mp
  apply BitVec.eq_of_toNat_eq
  rw [Int32.toBitVec_or, BitVec.toNat_or, pk_tn ha, pk_tn hb, pk_tn (Nat.or_lt_two_pow ha hb)]
theorem bse_n {a b w : Nat} (ha : a < 16) (hb : b < 16) (hw : w < 32) : ∃ n, n < 32768 ∧ (nI a ||| (nI b <<< ((4 : Int32) &&& 31))) ||| (nI w <<< ((10 : Int32) &&& 31)) = nI n := by
  rw [pk_shlN _ 4 (by decide) (by omega), pk_shlN _ 10 (by decide) (by omega), nI_or _ _ (by omega) (by omega)]
  have h1 : a ||| b * 2 ^ 4 < 2 ^ 15 := Nat.or_lt_two_pow (by omega) (by omega)
  rw [nI_or _ _ (by omega) (by omega)]
  exact ⟨_, Nat.or_lt_two_pow h1 (by omega), rfl⟩
/-- the component and the model's loop, i orders placed -/
def J0 (i fr : Nat) (v : Nat → Int32) (f u tf : Nat → Nat → Int32) : Prop :=
  v 9 = 1 ∧ v 2 = nI i ∧ v 8 = nI fr ∧ fr < 32 ∧ (∃ m, m ≤ 37 ∧ i ≤ m ∧ v 20 = nI m) ∧ rTk f tf ∧ rVr f tf ∧
    ∀ j, j < i → ∃ s n, s < 64 ∧ n < 32768 ∧ tf 39 j = nI s ∧ bse tf j = nI n ∧ u j 0 = nI (s / 32) ∧ u j 1 = nI (s % 32)
/-- an order that is led, or stops, or is the second of a fork -/
def sLed (kd nx : Nat → Nat) (go : Nat → Int32) (u tf : Nat → Nat → Int32) (j : Nat) : Prop :=
  (kd j = 0 → u j 2 = ldx (bse tf j) (tf 39 j) (tf 39 (nx j))) ∧ (kd j = 1 → u j 2 = 1015824) ∧ (kd j = 2 → u j 2 = bse tf j ∧ u j 4 = go j) ∧ (kd j ≠ 2 → u j 4 = -1)
/-- or waits for the one that is placed next -/
def sPen (kd nx : Nat → Nat) (la : Nat → Option Nat) (i : Nat) (u tf : Nat → Nat → Int32) (j : Nat) : Prop := kd j = 0 ∧ nx j = i ∧ la 0 = some j ∧ u j 2 = bse tf j ∧ u j 4 = -1
def S0 (kd nx : Nat → Nat) (go : Nat → Int32) (i : Nat) (u : Nat → Nat → Int32) (la : Nat → Option Nat) (tf : Nat → Nat → Int32) : Prop :=
  (∀ j, j < i → (sLed kd nx go u tf j ∧ (kd j = 0 → nx j < i) ∧ la 0 ≠ some j) ∨ sPen kd nx la i u tf j) ∧ ∀ j, la 0 = some j → j < i
/-- what placing changes -/
def pF (i : Nat) (f f1 tf tf1 : Nat → Nat → Int32) (v v1 : Nat → Int32) : Prop := (∀ k, (k < 39 ∨ 43 < k) → tf1 k = tf k) ∧ (∀ k, k ≠ 3 → k ≠ 4 → f1 k = f k) ∧ (∀ k, k ≠ 2 → k ≠ 8 → k ≠ 9 → k ≠ 20 → v1 k = v k) ∧ ∀ j, j < i → tf1 39 j = tf 39 j ∧ tf1 40 j = tf 40 j
theorem bse_eq {i j : Nat} {f f1 tf tf1 : Nat → Nat → Int32} {v v1 : Nat → Int32} (h : pF i f f1 tf tf1 v v1) (hj : j < i) : bse tf1 j = bse tf j := by
  unfold bse
  rw [h.1 35 (by decide), h.1 36 (by decide), (h.2.2.2 j hj).2]
/-- putting order i: all before it is led -/
theorem put_led {kd nx : Nat → Nat} {go : Nat → Int32} {i fr l p : Nat} {x3 : Int32} {v v1 : Nat → Int32} {f f1 u u1 tf tf1 : Nat → Nat → Int32} {la : Nat → Option Nat} (hJ : J0 i fr v f u tf) (hS : S0 kd nx go i u la tf) (hp : putR i l p x3 u la u1) (hl : l < 2) (hp2 : p < 32) (h39 : tf1 39 i = nI (32 * l + p)) (hF : pF i f f1 tf tf1 v v1) :
    (∀ j, j < i → sLed kd nx go u1 tf1 j ∧ (kd j = 0 → nx j < i + 1)) ∧ ∀ j, j < i → ∃ s n, s < 64 ∧ n < 32768 ∧ tf1 39 j = nI s ∧ bse tf1 j = nI n ∧ u1 j 0 = nI (s / 32) ∧ u1 j 1 = nI (s % 32) := by
  obtain ⟨b1, b2, b3, b4, b5, b6⟩ := hp
  have hsp := hJ.2.2.2.2.2.2.2
  refine ⟨fun j hj => ?_, fun j hj => ?_⟩
  · obtain ⟨s, n, c1, c2, c3, c4, c5, c6⟩ := hsp j hj
    rcases hS.1 j hj with ⟨⟨q1, q2, q3, q4⟩, q5, q6⟩ | ⟨q1, q2, q3, q4, q5⟩
    · refine ⟨⟨fun hk => ?_, fun hk => ?_, fun hk => ?_, fun hk => ?_⟩, fun hk => by have := q5 hk; omega⟩
      · rw [b5 j hj q6, bse_eq hF hj, (hF.2.2.2 j hj).1, (hF.2.2.2 (nx j) (q5 hk)).1]
        exact q1 hk
      · rw [b5 j hj q6]; exact q2 hk
      · rw [b5 j hj q6, bse_eq hF hj]; exact q3 hk
      · rw [b5 j hj q6]; exact q4 hk
    · obtain ⟨d1, d2, d3, d4⟩ := b6 j q3
      refine ⟨⟨fun hk => ?_, fun hk => by omega, fun hk => by omega, fun hk => by rw [d4]; exact q5⟩, fun hk => by omega⟩
      rw [d3, q4, c4, c6, bse_eq hF hj, c4, (hF.2.2.2 j hj).1, c3, q2, h39]
      have := lead_eq (n := n) (s := 32 * l + p) (p := s) c2 (by omega) c1
      rw [show (32 * l + p) / 32 = l by omega, show (32 * l + p) % 32 = p by omega] at this
      exact this
  · obtain ⟨s, n, c1, c2, c3, c4, c5, c6⟩ := hsp j hj
    refine ⟨s, n, c1, c2, ?_, ?_, ?_, ?_⟩
    · rw [(hF.2.2.2 j hj).1]; exact c3
    · rw [bse_eq hF hj]; exact c4
    · by_cases hla : la 0 = some j
      · rw [(b6 j hla).1]; exact c5
      · rw [b5 j hj hla]; exact c5
    · by_cases hla : la 0 = some j
      · rw [(b6 j hla).2.1]; exact c6
      · rw [b5 j hj hla]; exact c6
