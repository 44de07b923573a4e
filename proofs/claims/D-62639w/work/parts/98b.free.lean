theorem php : ∀ (n : Nat) (g : Nat → Nat), (∀ j, j < n + 1 → g j < n) → ∃ i j, i < j ∧ j < n + 1 ∧ g i = g j := by
  intro n
  induction n with
  | zero => intro g h; exact absurd (h 0 (by omega)) (by omega)
  | succ n ih =>
    intro g h
    by_cases hx : ∃ i, i < n + 1 ∧ g i = g (n + 1)
    · obtain ⟨i, h1, h2⟩ := hx
      exact ⟨i, n + 1, h1, by omega, h2⟩
    · have hne : ∀ i, i < n + 1 → g i ≠ g (n + 1) := fun i hi he => hx ⟨i, hi, he⟩
      have hm := h (n + 1) (by omega)
      obtain ⟨i, j, h1, h2, h3⟩ := ih (fun i => if g (n + 1) < g i then g i - 1 else g i) (fun j hj => by
        have a1 := h j (by omega)
        have a2 := hne j hj
        show (if g (n + 1) < g j then g j - 1 else g j) < n
        split <;> omega)
      refine ⟨i, j, h1, by omega, ?_⟩
      have a1 := hne i (by omega)
      have a2 := hne j h2
      have h3 : (if g (n + 1) < g i then g i - 1 else g i) = (if g (n + 1) < g j then g j - 1 else g j) := h3
      split at h3 <;> split at h3 <;> omega
/-- what is taken, in both -/
def rTk (f tf : Nat → Nat → Int32) : Prop := ∀ j, j < 64 → tf 41 j = f 3 j
theorem m31 {a : Nat} (h : a < 2 ^ 31) : nI a &&& (31 : Int32) = nI (a % 32) := pk_andN (by omega) 5 (by decide)
theorem r32 {a : Nat} (h : a < 2 ^ 31) : nI a - nI a / (32 : Int32) * (32 : Int32) = nI (a % 32) := pk_rem (d := 32) h (by decide) (by decide)
theorem free_lp {t : Nat → Nat → Int32} {v : Nat → Int32} {f : Nat → Nat → Int32} {u : Nat → Nat → Int32} {la : Nat → Option Nat} {tv : Nat → Int32} {tf : Nat → Nat → Int32} {fr : Nat} (hfr : fr < 32) (h8 : v 8 = nI fr) (hT : rTk f tf) : ∀ (d l n : Nat), l + d = 32 → d < n → ∃ z, F_As_free_2 t v f u la n (nI l) = some z ∧ F_Mo_free_2 (nI fr) 0 tv tf n (nI l) = some z ∧ (z = -1 ∨ ∃ p, p < 64 ∧ z = nI p) := by
  intro d
  induction d with
  | zero =>
    intro l n hl hn
    obtain ⟨n, rfl⟩ : ∃ k, n = k + 1 := ⟨n - 1, by omega⟩
    have : l = 32 := by omega
    subst this
    refine ⟨-1, ?_, ?_, Or.inl rfl⟩
    · rw [F_As_free_2, if_pos (show (32 : Int32) ≤ nI 32 from nI_le (Nat.le_refl 32) (by decide))]
    · rw [F_Mo_free_2, if_pos rfl]
      unfold F_Mo_free_14
      rw [if_pos (show (32 : Int32) ≤ nI 32 from nI_le (Nat.le_refl 32) (by decide))]
  | succ d ih =>
    intro l n hl hn
    obtain ⟨n, rfl⟩ : ∃ k, n = k + 1 := ⟨n - 1, by omega⟩
    obtain ⟨z, i1, i2, i3⟩ := ih (l + 1) n (by omega) (by omega)
    have hp : (fr + l) % 32 < 32 := Nat.mod_lt _ (by decide)
    generalize hpe : (fr + l) % 32 = p at hp
    have e1 : F_As_free_2 t v f u la (n + 1) (nI l) = (if nI p < 0 ∨ 96 ≤ (nI p).toNatClampNeg then none else if f 3 (nI p).toNatClampNeg = 0 then some (nI p) else if nI (32 + p) < 0 ∨ 96 ≤ (nI (32 + p)).toNatClampNeg then none else if f 3 (nI (32 + p)).toNatClampNeg = 0 then some (nI (32 + p)) else F_As_free_2 t v f u la n (nI (l + 1))) := by
      rw [F_As_free_2]
      rw [if_neg (show ¬ (32 : Int32) ≤ nI l from nI_ge (b := 32) (by omega) (by decide)), h8, nI_add, r32 (by omega), hpe, nI_1, show (32 : Int32) + nI p = nI (32 + p) from nI_add 32 p]
    have e2 : F_Mo_free_2 (nI fr) 0 tv tf (n + 1) (nI l) = (if nI p < 0 ∨ 64 ≤ (nI p).toNatClampNeg then none else if tf 41 (nI p).toNatClampNeg = 0 then (if nI p < 0 ∨ 64 ≤ (nI p).toNatClampNeg then none else if tf 41 (nI p).toNatClampNeg = 0 then some (nI p) else F_Mo_free_66 (nI fr) 0 tv tf (F_Mo_free_2 (nI fr) 0 tv tf n) (nI l) (nI p) (nI p)) else F_Mo_free_66 (nI fr) 0 tv tf (F_Mo_free_2 (nI fr) 0 tv tf n) (nI l) (nI p) (nI p)) := by
      rw [F_Mo_free_2, if_pos rfl]
      unfold F_Mo_free_14 F_Mo_free_41
      rw [if_neg (show ¬ (32 : Int32) ≤ nI l from nI_ge (b := 32) (by omega) (by decide)), if_pos rfl, nI_add, m31 (by omega), hpe]
    have e3 : F_Mo_free_66 (nI fr) 0 tv tf (F_Mo_free_2 (nI fr) 0 tv tf n) (nI l) (nI p) (nI p) = (if tf 41 (32 + p) = 0 then some (nI (32 + p)) else F_Mo_free_2 (nI fr) 0 tv tf n (nI (l + 1))) := by
      unfold F_Mo_free_66 F_Mo_free_98
      rw [show (32 : Int32) + nI p = nI (32 + p) from nI_add 32 p, if_neg (nI_in (by omega) (by decide)), if_neg (nI_in (by omega) (by decide)), nI_clamp (by omega), nI_1]
      split <;> rfl
    rw [e1, e2, e3, if_neg (nI_in (by omega) (by decide)), if_neg (nI_in (by omega) (by decide)), if_neg (nI_in (by omega) (by decide)), if_neg (nI_in (by omega) (by decide)), nI_clamp (by omega), nI_clamp (by omega), hT p (by omega), hT (32 + p) (by omega)]
    by_cases h1 : f 3 p = 0
    · rw [if_pos h1, if_pos h1, if_pos h1]
      exact ⟨nI p, rfl, rfl, Or.inr ⟨p, by omega, rfl⟩⟩
    · rw [if_neg h1, if_neg h1]
      by_cases h2 : f 3 (32 + p) = 0
      · rw [if_pos h2, if_pos h2]
        exact ⟨nI (32 + p), rfl, rfl, Or.inr ⟨32 + p, by omega, rfl⟩⟩
      · rw [if_neg h2, if_neg h2]
        exact ⟨z, i1, i2, i3⟩
theorem pair_sp {t : Nat → Nat → Int32} {v : Nat → Int32} {f : Nat → Nat → Int32} {u : Nat → Nat → Int32} {la : Nat → Option Nat} {l p : Nat} (hl : l < 2) (hp : p < 32) :
    ((f 3 (32 * l + p) = 0 ∧ f 3 (32 * l + (p + 1) % 32) = 0) ∧ F_As_pair t (nI l) (nI p) v f u la = some 1) ∨ ((¬ (f 3 (32 * l + p) = 0 ∧ f 3 (32 * l + (p + 1) % 32) = 0)) ∧ F_As_pair t (nI l) (nI p) v f u la = some 0) := by
  unfold F_As_pair F_As_pair_37
  rw [nI_1, r32 (by omega), ord_ix hl hp, ord_ix hl (Nat.mod_lt _ (by decide)), if_neg (nI_in (by omega) (by decide)), if_neg (nI_in (by omega) (by decide)), nI_clamp (by omega), nI_clamp (by omega)]
  by_cases h1 : f 3 (32 * l + p) = 0
  · by_cases h2 : f 3 (32 * l + (p + 1) % 32) = 0
    · exact Or.inl ⟨⟨h1, h2⟩, by rw [if_pos h1, if_pos h2]⟩
    · exact Or.inr ⟨fun q => h2 q.2, by rw [if_pos h1, if_neg h2]⟩
  · exact Or.inr ⟨fun q => h1 q.1, by rw [if_neg h1]⟩
theorem fork_lp {t : Nat → Nat → Int32} {v : Nat → Int32} {f : Nat → Nat → Int32} {u : Nat → Nat → Int32} {la : Nat → Option Nat} {tv : Nat → Int32} {tf : Nat → Nat → Int32} {fr : Nat} (x1 : Int32) (hfr : fr < 32) (h8 : v 8 = nI fr) (h9 : v 9 = 1) (hT : rTk f tf) : ∀ (d l nc nm : Nat) (l3 : Int32), l + d = 31 → d + 1 < nc → d < nm →
    (F_Mo_free_2 (nI (fr + 1)) 1 tv tf nm (nI l) = some (-1) ∧ ∃ L3, F_As_fork_7 t x1 nc (-1) l3 (nI (l + 1)) v f u la = F_As_fork_72 t x1 (-1) L3 v f u la) ∨
    (∃ a p, a < 2 ∧ p < 32 ∧ F_Mo_free_2 (nI (fr + 1)) 1 tv tf nm (nI l) = some (nI (32 * a + p)) ∧ F_As_fork_7 t x1 nc (-1) l3 (nI (l + 1)) v f u la = F_As_fork_72 t x1 (nI p) (nI a) v f u la) := by
  intro d
  induction d with
  | zero =>
    intro l nc nm l3 hl hc hm
    obtain ⟨nc, rfl⟩ : ∃ k, nc = k + 1 := ⟨nc - 1, by omega⟩
    obtain ⟨nm, rfl⟩ : ∃ k, nm = k + 1 := ⟨nm - 1, by omega⟩
    have : l = 31 := by omega
    subst this
    refine Or.inl ⟨?_, l3, ?_⟩
    · rw [F_Mo_free_2, if_neg i10]
      unfold F_Mo_free_14
      rw [if_pos (show (31 : Int32) ≤ nI 31 from nI_le (Nat.le_refl 31) (by decide))]
    · rw [F_As_fork_7, if_pos (show (32 : Int32) ≤ nI (31 + 1) from nI_le (Nat.le_refl 32) (by decide))]
  | succ d ih =>
    intro l nc nm l3 hl hc hm
    obtain ⟨nc, rfl⟩ : ∃ k, nc = k + 1 := ⟨nc - 1, by omega⟩
    obtain ⟨nm, rfl⟩ : ∃ k, nm = k + 1 := ⟨nm - 1, by omega⟩
    have hp : (fr + (l + 1)) % 32 < 32 := Nat.mod_lt _ (by decide)
    have hpe' : (fr + 1 + l) % 32 = (fr + (l + 1)) % 32 := by congr 1; omega
    generalize hpe : (fr + (l + 1)) % 32 = p at hp hpe'
    have hp1 : (p + 1) % 32 < 32 := Nat.mod_lt _ (by decide)
    have eM : F_Mo_free_2 (nI (fr + 1)) 1 tv tf (nm + 1) (nI l) = (if f 3 p = 0 then (if f 3 ((p + 1) % 32) = 0 then some (nI p) else (if f 3 (32 + p) = 0 then (if f 3 (32 + (p + 1) % 32) = 0 then some (nI (32 + p)) else F_Mo_free_2 (nI (fr + 1)) 1 tv tf nm (nI (l + 1))) else F_Mo_free_2 (nI (fr + 1)) 1 tv tf nm (nI (l + 1)))) else (if f 3 (32 + p) = 0 then (if f 3 (32 + (p + 1) % 32) = 0 then some (nI (32 + p)) else F_Mo_free_2 (nI (fr + 1)) 1 tv tf nm (nI (l + 1))) else F_Mo_free_2 (nI (fr + 1)) 1 tv tf nm (nI (l + 1)))) := by
      rw [F_Mo_free_2, if_neg i10]
      unfold F_Mo_free_14 F_Mo_free_41 F_Mo_free_66 F_Mo_free_98
      rw [if_neg (show ¬ (31 : Int32) ≤ nI l from nI_ge (b := 31) (by omega) (by decide)), if_neg i10, nI_add, m31 (by omega), hpe', nI_1, nI_1, m31 (by omega), show (32 : Int32) + nI p = nI (32 + p) from nI_add 32 p, show (32 : Int32) + nI ((p + 1) % 32) = nI (32 + (p + 1) % 32) from nI_add 32 _,
        if_neg (nI_in (show p < 64 by omega) (by decide)), if_neg (nI_in (show (p + 1) % 32 < 64 by omega) (by decide)), if_neg (nI_in (show 32 + p < 64 by omega) (by decide)), if_neg (nI_in (show 32 + (p + 1) % 32 < 64 by omega) (by decide)), nI_clamp (by omega), nI_clamp (by omega), nI_clamp (by omega), nI_clamp (by omega), hT p (by omega), hT ((p + 1) % 32) (by omega), hT (32 + p) (by omega), hT (32 + (p + 1) % 32) (by omega)]
    have eC : F_As_fork_7 t x1 (nc + 1) (-1) l3 (nI (l + 1)) v f u la = Option.bind (F_As_pair t (nI 0) (nI p) v f u la) (fun z1 => if z1 = (0 : Int32) then F_As_fork_52 t x1 (F_As_fork_7 t x1 nc) (-1) (nI (l + 1)) (nI p) (nI 1) v f u la else F_As_fork_52 t x1 (F_As_fork_7 t x1 nc) (-1) (nI (l + 1)) (nI p) (nI 0) v f u la) := by
      rw [F_As_fork_7, if_neg (show ¬ (32 : Int32) ≤ nI (l + 1) from nI_ge (b := 32) (by omega) (by decide)), if_neg (show ¬ (0 : Int32) ≤ -1 by decide), h9, if_neg i10, h8, nI_add, r32 (by omega), hpe]
      rfl
    have eF : ∀ a, a < 2 → F_As_fork_7 t x1 nc (nI p) (nI a) (nI (l + 1 + 1)) v f u la = F_As_fork_72 t x1 (nI p) (nI a) v f u la := by
      intro a ha
      obtain ⟨nc, rfl⟩ : ∃ k, nc = k + 1 := ⟨nc - 1, by omega⟩
      rw [F_As_fork_7]
      split
      · rfl
      · rw [if_pos (nI_pos' (by omega))]
    rw [eM, eC]
    rcases pair_sp (t := t) (v := v) (f := f) (u := u) (la := la) (l := 0) (p := p) (by decide) hp with ⟨⟨q1, q2⟩, q3⟩ | ⟨q1, q3⟩
    · have q1 : f 3 p = 0 := by rw [Nat.mul_zero, Nat.zero_add] at q1; exact q1
      have q2 : f 3 ((p + 1) % 32) = 0 := by rw [Nat.mul_zero, Nat.zero_add] at q2; exact q2
      refine Or.inr ⟨0, p, by decide, hp, ?_, ?_⟩
      · rw [if_pos q1, if_pos q2, Nat.mul_zero, Nat.zero_add]
      · rw [q3, Option.bind_some, if_neg i10]
        unfold F_As_fork_52 F_As_fork_66
        rw [q3, Option.bind_some, if_neg i10, nI_1]
        exact eF 0 (by decide)
    · rw [q3, Option.bind_some, if_pos rfl]
      have q1 : ¬ (f 3 p = 0 ∧ f 3 ((p + 1) % 32) = 0) := by rw [Nat.mul_zero, Nat.zero_add, Nat.zero_add] at q1; exact q1
      have eM2 : (if f 3 p = 0 then (if f 3 ((p + 1) % 32) = 0 then some (nI p) else (if f 3 (32 + p) = 0 then (if f 3 (32 + (p + 1) % 32) = 0 then some (nI (32 + p)) else F_Mo_free_2 (nI (fr + 1)) 1 tv tf nm (nI (l + 1))) else F_Mo_free_2 (nI (fr + 1)) 1 tv tf nm (nI (l + 1)))) else (if f 3 (32 + p) = 0 then (if f 3 (32 + (p + 1) % 32) = 0 then some (nI (32 + p)) else F_Mo_free_2 (nI (fr + 1)) 1 tv tf nm (nI (l + 1))) else F_Mo_free_2 (nI (fr + 1)) 1 tv tf nm (nI (l + 1)))) = (if f 3 (32 + p) = 0 then (if f 3 (32 + (p + 1) % 32) = 0 then some (nI (32 + p)) else F_Mo_free_2 (nI (fr + 1)) 1 tv tf nm (nI (l + 1))) else F_Mo_free_2 (nI (fr + 1)) 1 tv tf nm (nI (l + 1))) := by
        by_cases h1 : f 3 p = 0
        · rw [if_pos h1, if_neg (fun q => q1 ⟨h1, q⟩)]
        · rw [if_neg h1]
      rw [eM2]
      unfold F_As_fork_52 F_As_fork_66
      rcases pair_sp (t := t) (v := v) (f := f) (u := u) (la := la) (l := 1) (p := p) (by decide) hp with ⟨⟨r1, r2⟩, r3⟩ | ⟨r1, r3⟩
      · rw [Nat.mul_one] at r1 r2
        refine Or.inr ⟨1, p, by decide, hp, ?_, ?_⟩
        · rw [if_pos r1, if_pos r2, Nat.mul_one]
        · rw [r3, Option.bind_some, if_neg i10, nI_1]
          exact eF 1 (by decide)
      · rw [Nat.mul_one] at r1
        have eM3 : (if f 3 (32 + p) = 0 then (if f 3 (32 + (p + 1) % 32) = 0 then some (nI (32 + p)) else F_Mo_free_2 (nI (fr + 1)) 1 tv tf nm (nI (l + 1))) else F_Mo_free_2 (nI (fr + 1)) 1 tv tf nm (nI (l + 1))) = F_Mo_free_2 (nI (fr + 1)) 1 tv tf nm (nI (l + 1)) := by
          by_cases h1 : f 3 (32 + p) = 0
          · rw [if_pos h1, if_neg (fun q => r1 ⟨h1, q⟩)]
          · rw [if_neg h1]
        rw [eM3, r3, Option.bind_some, if_pos rfl, nI_1]
        exact ih (l + 1) nc nm (nI 1) (by omega) (by omega) (by omega)
