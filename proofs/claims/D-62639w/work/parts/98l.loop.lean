theorem get_s {t : Nat → Nat → Int32} {v : Nat → Int32} {f : Nat → Nat → Int32} {u : Nat → Nat → Int32} {la : Nat → Option Nat} {i m : Nat} (hm : m ≤ 12) (hi : i < m) (h21 : v 21 = nI m) : F_AL_get_s t (nI i) v f u la = some i := by
  unfold F_AL_get_s F_AL_eld_s F_Ob_check F_Pc_check
  rw [h21, if_neg (nI_pos (by omega)), if_pos (nI_lt hi (by omega)), nI_clamp (n := m) (by omega), if_neg (show ¬ (nI i < 0 ∨ m ≤ (nI i).toNatClampNeg) from nI_in hi (by omega)), nI_clamp (by omega)]
  rfl
/-- where the orders of statement k begin -/
def off (o : Nat → Nat) : Nat → Nat
  | 0 => 0
  | k + 1 => off o k + szo (o k)
theorem szo_b (o : Nat) : 1 ≤ szo o ∧ szo o ≤ 3 := by
  unfold szo
  split
  · exact ⟨by decide, by decide⟩
  · split
    · exact ⟨by decide, by decide⟩
    · exact ⟨by decide, by decide⟩
theorem off_le (o : Nat → Nat) : ∀ k, off o k ≤ 3 * k := by
  intro k
  induction k with
  | zero => exact Nat.le_refl _
  | succ k ih =>
    have := szo_b (o k)
    show off o k + szo (o k) ≤ _
    omega
theorem off_mono (o : Nat → Nat) : ∀ d k, off o k ≤ off o (k + d) := by
  intro d
  induction d with
  | zero => exact fun k => Nat.le_refl _
  | succ d ih =>
    intro k
    have := ih k
    show _ ≤ off o (k + d) + szo (o (k + d))
    omega
theorem off_sz {o : Nat → Nat} {k n : Nat} (h : k < n) : off o k + szo (o k) ≤ off o n := by
  obtain ⟨d, rfl⟩ : ∃ d, n = (k + 1) + d := ⟨n - (k + 1), by omega⟩
  exact off_mono o d (k + 1)
theorem off_lt {o : Nat → Nat} {k n : Nat} (h : k < n) : off o k < off o n := by
  have := off_sz (o := o) h
  have := szo_b (o k)
  omega
theorem entP.mv {tf tf1 : Nat → Nat → Int32} {i k o : Nat} {s : Nat → Int32} (h : entP tf i k o s) (hT : ∀ k, (k < 39 ∨ 43 < k) → tf1 k = tf k) : entP tf1 i k o s := by
  unfold entP ent
  rw [hT 35 (by decide), hT 36 (by decide), hT 37 (by decide), hT 38 (by decide)]
  exact h
theorem end_5 {t : Nat → Nat → Int32} {v : Nat → Int32} {f : Nat → Nat → Int32} {u : Nat → Nat → Int32} {la : Nat → Option Nat} (h9 : v 9 = 0) : F_As_assemble_185 t v f u la = some (-1, v, f, u, la) := by
  unfold F_As_assemble_185
  rw [F_As_assemble_187]
  unfold F_As_assemble_277
  by_cases h2 : v 2 ≤ 0
  · rw [if_pos h2, if_pos h9]
  · rw [if_neg h2, if_pos h9, if_pos h9]
theorem end_not {t : Nat → Nat → Int32} {v : Nat → Int32} {f : Nat → Nat → Int32} {u : Nat → Nat → Int32} {la : Nat → Option Nat} (h9 : v 9 = 0) : F_As_assemble_167 t v f u la = some (-1, v, f, u, la) := by
  unfold F_As_assemble_167
  rw [if_pos h9]
  exact end_5 h9
theorem asm_not {t : Nat → Nat → Int32} {v : Nat → Int32} {f : Nat → Nat → Int32} {u : Nat → Nat → Int32} {la : Nat → Option Nat} (q : Nat) (x : Int32) (h9 : v 9 = 0) : F_As_assemble_78 t (q + 1) x v f u la = some (-1, v, f, u, la) := by
  rw [F_As_assemble_78]
  unfold F_AL_size_s
  rw [Option.bind_some]
  by_cases h2 : v 21 ≤ x
  · rw [if_pos h2]
    exact end_not h9
  · rw [if_neg h2, if_pos h9]
    exact end_not h9
/-- what assembling keeps -/
def aKp (v : Nat → Int32) (f tf : Nat → Nat → Int32) (v1 : Nat → Int32) (f1 tf1 : Nat → Nat → Int32) : Prop :=
  (∀ k, (k < 39 ∨ 43 < k) → tf1 k = tf k) ∧ (∀ k, k ≠ 3 → k ≠ 4 → k ≠ 5 → f1 k = f k) ∧ ∀ k, k ≠ 2 → k ≠ 8 → k ≠ 9 → k ≠ 20 → v1 k = v k
theorem aKp.rf {v : Nat → Int32} {f tf : Nat → Nat → Int32} : aKp v f tf v f tf := ⟨fun _ _ => rfl, fun _ _ _ _ => rfl, fun _ _ _ _ _ => rfl⟩
theorem aKp.tr {v v1 v2 : Nat → Int32} {f tf f1 tf1 f2 tf2 : Nat → Nat → Int32} (h : aKp v f tf v1 f1 tf1) (h2 : aKp v1 f1 tf1 v2 f2 tf2) : aKp v f tf v2 f2 tf2 :=
  ⟨fun k hk => (h2.1 k hk).trans (h.1 k hk), fun k k1 k2 k3 => (h2.2.1 k k1 k2 k3).trans (h.2.1 k k1 k2 k3), fun k k1 k2 k3 k4 => (h2.2.2 k k1 k2 k3 k4).trans (h.2.2 k k1 k2 k3 k4)⟩
def aFail (v : Nat → Int32) (f tf : Nat → Nat → Int32) (tv : Nat → Int32) (C : Option (Int32 × (Nat → Int32) × (Nat → Nat → Int32) × (Nat → Nat → Int32) × (Nat → Option Nat))) (M : Option (Int32 × (Nat → Int32) × (Nat → Nat → Int32))) : Prop :=
  ∃ v1 f1 u1 la1 tf1, C = some (-1, v1, f1, u1, la1) ∧ (∃ m, m ≤ 37 ∧ v1 20 = nI m) ∧ aKp v f tf v1 f1 tf1 ∧ M = some (0, tv, tf1)
theorem aFail.tr {v v1 tv : Nat → Int32} {f tf f1 tf1 : Nat → Nat → Int32} {C : Option (Int32 × (Nat → Int32) × (Nat → Nat → Int32) × (Nat → Nat → Int32) × (Nat → Option Nat))} {M : Option (Int32 × (Nat → Int32) × (Nat → Nat → Int32))} (h : aFail v1 f1 tf1 tv C M) (h1 : aKp v f tf v1 f1 tf1) : aFail v f tf tv C M := by
  obtain ⟨v2, f2, u2, la2, tf2, a1, a2, a3, a4⟩ := h
  exact ⟨v2, f2, u2, la2, tf2, a1, a2, h1.tr a3, a4⟩
/-- statements below k are laid -/
def AIn (o : Nat → Nat) (k : Nat) (f tf : Nat → Nat → Int32) (la : Nat → Option Nat) : Prop :=
  (∀ k', k' < k → f 5 k' = tf 39 (off o k')) ∧ (0 < k → (o (k - 1) = 6 ↔ la 0 = none))
theorem J0.f5 {i fr : Nat} {v : Nat → Int32} {f u tf : Nat → Nat → Int32} (x : Nat → Int32) (h : J0 i fr v f u tf) : J0 i fr v (va_up f 5 x) u tf := by
  obtain ⟨j1, j2, j3, j4, j5, j8, j9, j10⟩ := h
  refine ⟨j1, j2, j3, j4, j5, ?_, ?_, j10⟩
  · exact j8
  · exact j9
theorem asm_lp {t : Nat → Nat → Int32} {kd nx : Nat → Nat} {go : Nat → Int32} {n Lz : Nat} {o : Nat → Nat} {tv : Nat → Int32} (hn : n ≤ 12) (hL : tv 34 = nI Lz) (hL2 : Lz ≤ 37) (hoff : off o n ≤ Lz) (hst : ∀ k, k < n → stOk (t k) ∧ t k 0 = nI (o k) ∧ o k < 7) (hgo : ∀ k, k < n → o k = 4 → go (off o k + 2) = t k 4) :
    ∀ (d k q N fr : Nat) (v : Nat → Int32) (f u : Nat → Nat → Int32) (la : Nat → Option Nat) (tf : Nat → Nat → Int32), k + d = n → d < q → J0 (off o k) fr v f u tf → S0 kd nx go (off o k) u la tf → v 21 = nI n → (∀ j, kd j = kdT tf j) → (∀ j, nx j = nxT tf j) → (∀ k, k < n → entP tf (off o k) k (o k) (t k)) → AIn o k f tf la →
      aFail v f tf tv (F_As_assemble_78 t q (nI k) v f u la) (F_Mo_place_67 (N + 3 * d) (nI fr) (nI (off o k)) tv tf) ∨
      ∃ fr1 v1 f1 u1 la1 tf1 N1, F_As_assemble_78 t q (nI k) v f u la = F_As_assemble_167 t v1 f1 u1 la1 ∧ N ≤ N1 ∧ F_Mo_place_67 (N + 3 * d) (nI fr) (nI (off o k)) tv tf = F_Mo_place_67 N1 (nI fr1) (nI (off o n)) tv tf1 ∧ J0 (off o n) fr1 v1 f1 u1 tf1 ∧ S0 kd nx go (off o n) u1 la1 tf1 ∧ AIn o n f1 tf1 la1 ∧ aKp v f tf v1 f1 tf1 := by
  intro d
  induction d with
  | zero =>
    intro k q N fr v f u la tf hk hq hJ hS h21 hkd hnx he hA
    have hk : k = n := hk
    subst hk
    obtain ⟨q, rfl⟩ : ∃ p, q = p + 1 := ⟨q - 1, by omega⟩
    refine Or.inr ⟨fr, v, f, u, la, tf, N, ?_, Nat.le_refl _, rfl, hJ, hS, hA, aKp.rf⟩
    rw [F_As_assemble_78]
    unfold F_AL_size_s
    rw [Option.bind_some, h21, if_pos (nI_le (Nat.le_refl _) (by omega))]
  | succ d ih =>
    intro k q N fr v f u la tf hk hq hJ hS h21 hkd hnx he hA
    obtain ⟨q, rfl⟩ : ∃ p, q = p + 1 := ⟨q - 1, by omega⟩
    have hkn : k < n := by omega
    obtain ⟨s1, s2, s3⟩ := hst k hkn
    have hoz := off_sz (o := o) hkn
    have hlay := lay_ok (tv := tv) (N := N + 3 * d) hn hkn h21 hJ hS hL hL2 hkd hnx (by omega) s1 s2 s3 (hgo k hkn) (he k hkn)
    rw [show N + 3 * (d + 1) = N + 3 * d + 3 by omega, F_As_assemble_78]
    unfold F_AL_size_s
    have h9 : ¬ v 9 = 0 := by rw [hJ.1]; decide
    rw [Option.bind_some, if_neg (show ¬ v 21 ≤ nI k by rw [h21]; exact nI_ge hkn (by omega)), if_neg h9, get_s hn hkn h21, Option.bind_some, if_neg (c_le hn hkn h21)]
    rcases hlay with ⟨v1, f1, u1, la1, tf1, a1, a2, a3, a4, a5, a6, a7, a8⟩ | ⟨fr1, v1, f1, u1, la1, tf1, N1, a1, a2, a3, a4, a5, a6, a7⟩
    · refine Or.inl ⟨v1, f1, u1, la1, tf1, ?_, a4, ⟨a8, fun k k1 k2 _ => a6 k k1 k2, a5⟩, a7⟩
      rw [a1, Option.bind_some]
      dsimp only
      rw [if_pos a2]
      unfold F_As_assemble_161
      obtain ⟨q, rfl⟩ : ∃ p, q = p + 1 := ⟨q - 1, by omega⟩
      exact asm_not q _ a2
    · have h9' : ¬ v1 9 = 0 := by rw [a4.1]; decide
      have a4' := a4
      obtain ⟨j1, j2, j3, j4, ⟨m, j5, j6, j7⟩, j8, j9, j10⟩ := a4
      have hsz := szo_b (o k)
      have hm : off o k < m := by omega
      have hmi : ¬ (v1 20).toNatClampNeg ≤ off o k := by rw [j7, nI_clamp (by omega)]; omega
      obtain ⟨s, w, c1, c2, c3, c4, c5, c6⟩ := j10 (off o k) (by omega)
      have e0 : Option.bind (F_As_lay t k v f u la) (fun z3 => (if (z3.1 9) = (0 : Int32) then (F_As_assemble_161 t (F_As_assemble_78 t q) (nI k) z3.1 z3.2.1 z3.2.2.1 z3.2.2.2) else (Option.bind (F_AL_get_p t (v 2) z3.1 z3.2.1 z3.2.2.1 z3.2.2.2) (fun z4 => (if (z3.1 20).toNatClampNeg ≤ z4 then none else (if (z3.1 20).toNatClampNeg ≤ z4 then none else (Option.bind (F_AL_get_p t (v 2) z3.1 z3.2.1 z3.2.2.1 z3.2.2.2) (fun z5 => (if (z3.1 20).toNatClampNeg ≤ z5 then none else (if (z3.1 20).toNatClampNeg ≤ z5 then none else (if nI k < 0 ∨ 12 ≤ (nI k).toNatClampNeg then none else (F_As_assemble_161 t (F_As_assemble_78 t q) (nI k) z3.1 (va_up z3.2.1 5 (upd (z3.2.1 5) (nI k).toNatClampNeg (((32 : Int32) * (z3.2.2.1 z4 0)) + (z3.2.2.1 z5 1)))) z3.2.2.1 z3.2.2.2)))))))))))) = F_As_assemble_78 t q (nI (k + 1)) v1 (va_up f1 5 (upd (f1 5) k (nI s))) u1 la1 := by
        rw [a1, Option.bind_some]
        dsimp only
        rw [if_neg h9', hJ.2.1, get_p j5 hm j7, Option.bind_some, if_neg hmi, if_neg hmi, Option.bind_some, if_neg hmi, if_neg hmi, if_neg (nI_in (show k < 12 by omega) (by decide)), nI_clamp (n := k) (by omega), c5, c6, ord_ix (by omega) (by omega), show 32 * (s / 32) + s % 32 = s by omega]
        unfold F_As_assemble_161
        rw [nI_1]
      rw [e0, a3]
      have a6' : aKp v f tf v1 (va_up f1 5 (upd (f1 5) k (nI s))) tf1 := ⟨a6.1, fun k k1 k2 k3 => (va_up_ne _ _ k3).trans (a6.2.1 k k1 k2), a6.2.2.1⟩
      obtain ⟨b1, b2⟩ := kd_mv hkd hnx a6.1
      obtain ⟨N2, rfl⟩ : ∃ p, N1 = p + 3 * d := ⟨N1 - 3 * d, by omega⟩
      have hA1 : AIn o (k + 1) (va_up f1 5 (upd (f1 5) k (nI s))) tf1 la1 := by
        refine ⟨fun k' hk' => ?_, fun _ => a7⟩
        show upd (f1 5) k (nI s) k' = _
        by_cases hkk : k' = k
        · subst hkk
          rw [pk_us, c3]
        · rw [pk_un hkk, a6.2.1 5 (by decide) (by decide), hA.1 k' (by omega), (a6.2.2.2 (off o k') (off_lt (by omega))).1]
      rcases ih (k + 1) q N2 fr1 v1 (va_up f1 5 (upd (f1 5) k (nI s))) u1 la1 tf1 (by omega) (by omega) (J0.f5 _ a4') a5 ((a6.2.2.1 21 (by decide) (by decide) (by decide) (by decide)).trans h21) b1 b2 (fun k hk => (he k hk).mv a6.1) hA1 with h | ⟨fr2, v2, f2, u2, la2, tf2, N3, e1, e2, e3, e4, e5, e6, e7⟩
      · exact Or.inl (h.tr a6')
      · exact Or.inr ⟨fr2, v2, f2, u2, la2, tf2, N3, e1, by omega, e3, e4, e5, e6, a6'.tr e7⟩
