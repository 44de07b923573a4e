/-- where variables are, in both -/
def rVr (f tf : Nat → Nat → Int32) : Prop :=
  (∀ j, j < 32 → tf 42 j = f 3 (64 + j) ∧ (tf 42 j = 0 ∨ tf 42 j = 1)) ∧ (∀ a, a < 16 → tf 43 a = f 4 a ∧ (f 4 a = -1 ∨ ∃ p, p < 32 ∧ f 4 a = nI p ∧ tf 42 p = 1)) ∧ ∀ j, j < 32 → tf 42 j = 1 → ∃ a, a < 16 ∧ f 4 a = nI j
theorem nI_in' {c N : Nat} (h : c < N) (hN : N < 2 ^ 31) : ¬ (nI c < 0 ∨ N ≤ c) := fun q => q.elim (nI_pos (by omega)) (by omega)
theorem i11 : (1 : Int32) &&& 1 = 1 := by decide
theorem hole {f tf : Nat → Nat → Int32} (h : rVr f tf) : ∃ j, j < 32 ∧ tf 42 j = 0 := by
  obtain ⟨h1, h2, h3⟩ := h
  refine Classical.byContradiction fun hn => ?_
  have hall : ∀ j, j < 32 → ∃ a, a < 16 ∧ f 4 a = nI j := fun j hj => h3 j hj ((h1 j hj).2.elim (fun q => absurd ⟨j, hj, q⟩ hn) id)
  have hg : ∃ g : Nat → Nat, ∀ j, j < 32 → g j < 16 ∧ f 4 (g j) = nI j := by
    refine ⟨fun j => if hj : j < 32 then Classical.choose (hall j hj) else 0, fun j hj => ?_⟩
    show (if hj : j < 32 then Classical.choose (hall j hj) else 0) < 16 ∧ f 4 (if hj : j < 32 then Classical.choose (hall j hj) else 0) = nI j
    rw [dif_pos hj]
    exact Classical.choose_spec (hall j hj)
  obtain ⟨g, hg⟩ := hg
  obtain ⟨i, j, q1, q2, q3⟩ := php 16 g (fun j hj => (hg j (by omega)).1)
  have e1 := (hg i (by omega)).2
  have e2 := (hg j (by omega)).2
  rw [q3, e2] at e1
  have := (nI_eq (by omega) (by omega)).mp e1
  omega
theorem settle_lp {t : Nat → Nat → Int32} {v : Nat → Int32} {f : Nat → Nat → Int32} {u : Nat → Nat → Int32} {la : Nat → Option Nat} {a p e q : Nat} (ha : a < 16) (hp : p < 32) (he : e < 32) (hq : q = (p + 2 + e) % 32) (h4 : f 4 a = -1) (h0 : f 3 (64 + q) = 0) (hm : ∀ c, c < e → f 3 (64 + (p + 2 + c) % 32) ≠ 0) :
    ∀ (d c n : Nat), c + d = e → d + 1 < n → F_As_settle_2 t (nI a) (nI p) n (nI (2 + c)) v f u la = some (v, va_up (va_up f 3 (upd (f 3) (64 + q) 1)) 4 (upd (f 4) a (nI q)), u, la) := by
  intro d
  induction d with
  | zero =>
    intro c n hc hn
    obtain ⟨n, rfl⟩ : ∃ k, n = k + 1 := ⟨n - 1, by omega⟩
    have : c = e := by omega
    subst this
    have hq32 : q < 32 := by rw [hq]; exact Nat.mod_lt _ (by decide)
    rw [F_As_settle_2, if_neg (show ¬ (34 : Int32) ≤ nI (2 + c) from nI_ge (b := 34) (by omega) (by decide)), if_neg (nI_in ha (by decide)), nI_clamp (by omega), h4, if_neg (by decide), nI_add, r32 (by omega), show p + (2 + c) = p + 2 + c by omega, ← hq, show (64 : Int32) + nI q = nI (64 + q) from nI_add 64 q, if_neg (nI_in (by omega) (by decide)), nI_clamp (by omega), if_pos h0, if_neg (nI_in' (show 64 + q < 96 by omega) (by decide)), if_neg (nI_in' ha (by decide)), i11]
    unfold F_As_settle_60
    obtain ⟨n, rfl⟩ : ∃ k, n = k + 1 := ⟨n - 1, by omega⟩
    rw [F_As_settle_2]
    split
    · rfl
    · rw [if_neg (nI_in ha (by decide)), nI_clamp (by omega), if_pos]
      show (0 : Int32) ≤ upd (f 4) a (nI q) a
      rw [pk_us]
      exact nI_pos' (by omega)
  | succ d ih =>
    intro c n hc hn
    obtain ⟨n, rfl⟩ : ∃ k, n = k + 1 := ⟨n - 1, by omega⟩
    have hr : (p + 2 + c) % 32 < 32 := Nat.mod_lt _ (by decide)
    rw [F_As_settle_2, if_neg (show ¬ (34 : Int32) ≤ nI (2 + c) from nI_ge (b := 34) (by omega) (by decide)), if_neg (nI_in ha (by decide)), nI_clamp (by omega), h4, if_neg (by decide), nI_add, r32 (by omega), show p + (2 + c) = p + 2 + c by omega, show (64 : Int32) + nI ((p + 2 + c) % 32) = nI (64 + (p + 2 + c) % 32) from nI_add 64 _, if_neg (nI_in (by omega) (by decide)), nI_clamp (by omega), if_neg (hm c (by omega))]
    unfold F_As_settle_60
    rw [nI_1]
    exact ih (c + 1) n (by omega) (by omega)
theorem var_lp {tv : Nat → Int32} {tf : Nat → Nat → Int32} {a p e q : Nat} (x2 : Int32) (ha : a < 16) (hp : p < 32) (he : e < 32) (hq : q = (p + 2 + e) % 32) (h4 : tf 43 a = -1) (h0 : tf 42 q = 0) (hm : ∀ c, c < e → tf 42 ((p + 2 + c) % 32) ≠ 0) :
    ∀ (d c n : Nat), c + d = e → d + 1 < n → F_Mo_variableFrom_5 (nI a) x2 n (nI ((p + 2 + c) % 32)) tv tf = some (nI q, tv, va_up (va_up tf 43 (upd (tf 43) a (nI q))) 42 (upd (tf 42) q 1)) := by
  intro d
  induction d with
  | zero =>
    intro c n hc hn
    obtain ⟨n, rfl⟩ : ∃ k, n = k + 1 := ⟨n - 1, by omega⟩
    have : c = e := by omega
    subst this
    have hq32 : q < 32 := by rw [hq]; exact Nat.mod_lt _ (by decide)
    rw [F_Mo_variableFrom_5, if_neg (nI_in ha (by decide)), nI_clamp (by omega), h4, if_neg (by decide), ← hq, if_neg (nI_in hq32 (by decide)), nI_clamp (by omega), if_pos h0, if_neg (nI_in' ha (by decide))]
    unfold F_Mo_variableFrom_30
    obtain ⟨n, rfl⟩ : ∃ k, n = k + 1 := ⟨n - 1, by omega⟩
    have e1 : va_up tf 43 (upd (tf 43) a (nI q)) 43 a = nI q := by
      show upd (tf 43) a (nI q) a = _
      rw [pk_us]
    rw [F_Mo_variableFrom_5, if_neg (nI_in ha (by decide)), nI_clamp (by omega), e1, if_pos (nI_pos' (by omega)), if_neg (nI_in' ha (by decide)), if_neg (nI_in hq32 (by decide)), if_neg (nI_in' ha (by decide)), nI_clamp (by omega), i11]
    rfl
  | succ d ih =>
    intro c n hc hn
    obtain ⟨n, rfl⟩ : ∃ k, n = k + 1 := ⟨n - 1, by omega⟩
    have hr : (p + 2 + c) % 32 < 32 := Nat.mod_lt _ (by decide)
    rw [F_Mo_variableFrom_5, if_neg (nI_in ha (by decide)), nI_clamp (by omega), h4, if_neg (by decide), if_neg (nI_in hr (by decide)), nI_clamp (by omega), if_neg (hm c (by omega))]
    unfold F_Mo_variableFrom_30
    rw [nI_1, m31 (by omega), show ((p + 2 + c) % 32 + 1) % 32 = (p + 2 + (c + 1)) % 32 by omega]
    exact ih (c + 1) n (by omega) (by omega)
theorem settle_ok {t : Nat → Nat → Int32} {v : Nat → Int32} {f : Nat → Nat → Int32} {u : Nat → Nat → Int32} {la : Nat → Option Nat} {tv : Nat → Int32} {tf : Nat → Nat → Int32} {a s : Nat} (ha : a < 16) (hs : s < 64) (h : rVr f tf) :
    ∃ (q : Nat) (f1 tf1 : Nat → Nat → Int32), q < 32 ∧ F_As_settle t (nI a) (nI (s % 32)) v f u la = some (v, f1, u, la) ∧ F_Mo_variableFrom (nI a) (nI (s + 2)) tv tf = some (nI q, tv, tf1) ∧ rVr f1 tf1 ∧ f1 4 a = nI q ∧ (∀ k, k ≠ 3 → k ≠ 4 → f1 k = f k) ∧ (∀ j, j < 64 → f1 3 j = f 3 j) ∧ ∀ k, k ≠ 42 → k ≠ 43 → tf1 k = tf k := by
  have h' := h
  obtain ⟨h1, h2, h3⟩ := h
  unfold F_As_settle F_Mo_variableFrom
  rw [m31 (by omega)]
  obtain ⟨g1, g2⟩ := h2 a ha
  rcases g2 with g2 | ⟨q, hq, g2, g3⟩
  · obtain ⟨j, hj, hj0⟩ := hole h'
    obtain ⟨e, ⟨he1, he2⟩, he3⟩ := pk_least (fun e => e < 32 ∧ tf 42 ((s % 32 + 2 + e) % 32) = 0) ⟨(j + 32 - (s % 32 + 2) % 32) % 32, Nat.mod_lt _ (by decide), by rw [show (s % 32 + 2 + (j + 32 - (s % 32 + 2) % 32) % 32) % 32 = j by omega]; exact hj0⟩
    have hm : ∀ c, c < e → tf 42 ((s % 32 + 2 + c) % 32) ≠ 0 := fun c hc q => he3 c hc ⟨by omega, q⟩
    have hq32 : (s % 32 + 2 + e) % 32 < 32 := Nat.mod_lt _ (by decide)
    generalize hqe : (s % 32 + 2 + e) % 32 = q at he2 hq32
    have hs0 : f 3 (64 + q) = 0 := by rw [← (h1 q hq32).1]; exact he2
    have hsm : ∀ c, c < e → f 3 (64 + (s % 32 + 2 + c) % 32) ≠ 0 := fun c hc => by rw [← (h1 _ (Nat.mod_lt _ (by decide))).1]; exact hm c hc
    have r1 := settle_lp (t := t) (v := v) (u := u) (la := la) ha (show s % 32 < 32 by omega) he1 hqe.symm g2 hs0 hsm e 0 100 (by omega) (by omega)
    have r2 := var_lp (tv := tv) (nI (s + 2)) ha (show s % 32 < 32 by omega) he1 hqe.symm (g1.trans g2) he2 hm e 0 100 (by omega) (by omega)
    rw [show (s % 32 + 2 + 0) % 32 = (s + 2) % 32 by omega] at r2
    refine ⟨q, _, _, hq32, r1, r2, ⟨?_, ?_, ?_⟩, pk_us, ?_, ?_, ?_⟩
    · intro k hk
      show upd (tf 42) q 1 k = upd (f 3) (64 + q) 1 (64 + k) ∧ (upd (tf 42) q 1 k = 0 ∨ upd (tf 42) q 1 k = 1)
      by_cases hkq : k = q
      · subst hkq
        rw [pk_us, pk_us]
        exact ⟨rfl, Or.inr rfl⟩
      · rw [pk_un hkq, pk_un (by omega)]
        exact h1 k hk
    · intro b hb
      show upd (tf 43) a (nI q) b = upd (f 4) a (nI q) b ∧ (upd (f 4) a (nI q) b = -1 ∨ ∃ p, p < 32 ∧ upd (f 4) a (nI q) b = nI p ∧ upd (tf 42) q 1 p = 1)
      by_cases hba : b = a
      · subst hba
        rw [pk_us, pk_us]
        exact ⟨rfl, Or.inr ⟨q, hq32, rfl, pk_us⟩⟩
      · rw [pk_un hba, pk_un hba]
        obtain ⟨b1, b2⟩ := h2 b hb
        refine ⟨b1, b2.imp id ?_⟩
        rintro ⟨p, p1, p2, p3⟩
        refine ⟨p, p1, p2, ?_⟩
        by_cases hpq : p = q
        · subst hpq; rw [pk_us]
        · rw [pk_un hpq]; exact p3
    · intro k hk hk1
      have hk1 : upd (tf 42) q 1 k = 1 := hk1
      show ∃ b, b < 16 ∧ upd (f 4) a (nI q) b = nI k
      by_cases hkq : k = q
      · subst hkq
        exact ⟨a, ha, pk_us⟩
      · rw [pk_un hkq] at hk1
        obtain ⟨b, b1, b2⟩ := h3 k hk hk1
        refine ⟨b, b1, ?_⟩
        by_cases hba : b = a
        · subst hba
          rw [g2] at b2
          have : nI k < 0 := by rw [← b2]; decide
          exact absurd this (nI_pos (by omega))
        · rw [pk_un hba]; exact b2
    · intro k k1 k2
      exact (va_up_ne _ _ k2).trans (va_up_ne _ _ k1)
    · intro k hk
      show upd (f 3) (64 + q) 1 k = _
      rw [pk_un (by omega)]
    · intro k k1 k2
      exact (va_up_ne _ _ k1).trans (va_up_ne _ _ k2)
  · refine ⟨q, f, va_up tf 42 (upd (tf 42) q 1), hq, ?_, ?_, ⟨?_, ?_, ?_⟩, g2, fun _ _ _ => rfl, fun _ _ => rfl, fun k k1 k2 => va_up_ne _ _ k1⟩
    · rw [F_As_settle_2, if_neg (by decide), if_neg (nI_in ha (by decide)), nI_clamp (by omega), g2, if_pos (nI_pos' (by omega))]
    · rw [F_Mo_variableFrom_5, if_neg (nI_in ha (by decide)), nI_clamp (by omega), g1, g2, if_pos (nI_pos' (by omega)), if_neg (nI_in' ha (by decide)), if_neg (nI_in hq (by decide)), if_neg (nI_in' ha (by decide)), nI_clamp (by omega), i11]
    · intro k hk
      show upd (tf 42) q 1 k = _ ∧ (upd (tf 42) q 1 k = 0 ∨ upd (tf 42) q 1 k = 1)
      by_cases hkq : k = q
      · subst hkq
        rw [pk_us, ← (h1 k hk).1, g3]
        exact ⟨rfl, Or.inr rfl⟩
      · rw [pk_un hkq]
        exact h1 k hk
    · intro b hb
      obtain ⟨b1, b2⟩ := h2 b hb
      refine ⟨b1, b2.imp id ?_⟩
      rintro ⟨p, p1, p2, p3⟩
      refine ⟨p, p1, p2, ?_⟩
      show upd (tf 42) q 1 p = 1
      by_cases hpq : p = q
      · subst hpq; rw [pk_us]
      · rw [pk_un hpq]; exact p3
    · intro k hk hk1
      have hk1 : upd (tf 42) q 1 k = 1 := hk1
      by_cases hkq : k = q
      · subst hkq
        exact ⟨a, ha, g2⟩
      · rw [pk_un hkq] at hk1
        exact h3 k hk hk1
