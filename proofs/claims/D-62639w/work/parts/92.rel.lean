/-! THE PLAIN LAW: the relation between the component's machine and the model's -/
abbrev sh (x : Int32) : Prop := x.toInt16.toInt32 = x
theorem sh_mk (x : Int32) : sh x.toInt16.toInt32 := by simp [sh]
/-- orders -/
def rO (a b : Nat → Int32) : Prop := ∀ j, j < 64 → b j = a j ∧ ∃ n, n < 2097152 ∧ a j = nI n
/-- there is a word of line k at place j -/
def ln (k j : Nat) : Prop := (2 ≤ k ∧ k < 6 ∧ j < 32) ∨ (k = 6 ∧ j = 0) ∨ (k = 7 ∧ j = 0) ∨ (k = 8 ∧ j < 2)
/-- and lies there in the model -/
def ad (k j : Nat) : Nat := if k < 6 then 32 * (k - 2) + j else if k = 6 then 128 else if k = 7 then 129 else 130 + j
theorem ad_lt {k j : Nat} (h : ln k j) : ad k j < 132 := by
  unfold ln at h; unfold ad
  split
  · omega
  · split
    · omega
    · split <;> omega
theorem ad_inj {k j k' j' : Nat} (h : ln k j) (h' : ln k' j') (he : ad k j = ad k' j') : k = k' ∧ j = j' := by
  unfold ln at h h'
  unfold ad at he
  repeat' split at he
  all_goals omega
def rWd (m : Nat → Nat → Int32) (w : Nat → Int32) : Prop := ∀ k j, ln k j → w (ad k j) = m k j ∧ sh (m k j)
theorem rWd_up {m : Nat → Nat → Int32} {w : Nat → Int32} {k j : Nat} {x : Int32} (h : rWd m w) (hl : ln k j) (hx : sh x) : rWd (va_up m k (upd (m k) j x)) (upd w (ad k j) x) := by
  intro k' j' h'
  by_cases hk : k' = k ∧ j' = j
  · obtain ⟨rfl, rfl⟩ := hk
    rw [va_up_self, pk_us, pk_us]
    exact ⟨rfl, hx⟩
  · have h1 : ad k' j' ≠ ad k j := fun he => hk (ad_inj h' hl he)
    have h2 : va_up m k (upd (m k) j x) k' j' = m k' j' := by
      by_cases h3 : k' = k
      · subst h3
        rw [va_up_self, pk_un (fun h4 => hk ⟨rfl, h4⟩)]
      · rw [va_up_ne _ _ h3]
    rw [pk_un h1, h2]
    exact h k' j' h'
theorem rWd_of {m m' : Nat → Nat → Int32} {w : Nat → Int32} (h : rWd m w) (hm : ∀ k, 2 ≤ k → k ≤ 8 → m' k = m k) : rWd m' w := by
  intro k j hl
  have : 2 ≤ k ∧ k ≤ 8 := by unfold ln at hl; omega
  rw [hm k this.1 this.2]
  exact h k j hl
/-- the order read last -/
def rC (N : Nat) (rl rp ct l p c : Int32) : Prop := c = ct ∧ (∃ n, n ≤ N ∧ ct = nI n) ∧ (ct = 0 → rl = -1 ∧ rp = -1) ∧ (ct ≠ 0 → rl = l ∧ rp = p)
/-- the multiplier -/
def rU (lf bits wk fc : Int32) : Prop := wk = lf ∧ (∃ k, k ≤ 16 ∧ lf = nI k) ∧ fc = bits.toInt16.toInt32
def bt (x : Int32) (r : Nat) : Bool := x.toBitVec.getLsbD r
/-- rows of the card that were taken, at the beginning of cycle N -/
def rT (N F : Nat) (ta mo : Int32) : Prop := ∀ r, r < 12 → (N ≤ F + 40 + 8 * r → bt ta r = false) ∧ (F + 40 + 8 * r < N → N ≤ F + 40 + 8 * r + 2 → (bt ta r = true ↔ mo = 1))
/-- and behind the model's look at its row -/
def rT' (N F : Nat) (ta mo : Int32) : Prop := ∀ r, r < 12 → (N < F + 40 + 8 * r → bt ta r = false) ∧ (F + 40 + 8 * r ≤ N → N ≤ F + 40 + 8 * r + 2 → (bt ta r = true ↔ mo = 1))
/-- the reader; T: the rows taken -/
def rR (T : Nat → Nat → Int32 → Int32 → Prop) (N : Nat) (ro ne fi fe re ta : Int32) (dk : Nat → Int32) (ca cm fd mo : Int32) (td cd : Nat → Int32) : Prop :=
  ∃ c n : Nat, n ≤ c ∧ c ≤ 48 ∧ ro = nI c ∧ cm = nI c ∧ ne = nI n ∧ ca = nI (c - n) ∧ (∀ j, j < c → sh (dk j)) ∧ (∀ j, n + j < c → td j = dk (n + j)) ∧ (mo = 0 ∨ mo = 1) ∧
    ((re = 0 ∧ fd = -1) ∨ (re = 1 ∧ ∃ F n0 : Nat, F ≤ N ∧ fe = nI F ∧ fd = nI F ∧ fi = nI n0 ∧ n0 + 12 ≤ n ∧ (∀ j, j < 12 → cd j = dk (n0 + j)) ∧ T N F ta mo))
/-- punches -/
def rP (N : Nat) (pu la pu' la' : Int32) (a b : Nat → Int32) : Prop := pu' = pu ∧ la' = la ∧ (∃ n, n ≤ 60 ∧ pu = nI n ∧ ∀ j, j < n → b j = a j ∧ sh (a j)) ∧ (la = -6 ∨ ∃ n, n ≤ N ∧ la = nI n)
/-- a window -/
def rV (a z a' z' : Int32) (si di : Nat) (o : Int32) (A Z : Nat) : Prop := (a = -1 ∧ z = -1 ∧ a' = 0 ∧ z' = -1) ∨ (a = nI A ∧ a' = nI A ∧ z = nI Z ∧ z' = nI Z ∧ ∃ q, q < 2097152 ∧ o = nI q ∧ si = q % 16 ∧ di = q / 16 % 16)
/-- what holds while it goes; e = 0: at the beginning of a cycle, 1: behind the reading of an order -/
def rG (e N : Nat) (mv : Nat → Int32) (mi : Nat → Nat) (tv : Nat → Int32) : Prop :=
  ∃ D b l A Z A0 Z0 : Nat, mv 12 = nI D ∧ mv 13 = nI b ∧ b ≤ 1 ∧ tv 5 = nI (D + b) ∧ N + e ≤ D + b ∧ D ≤ N + 100 ∧ mv 11 = nI l ∧ tv 6 = nI l ∧ l ≤ 1 ∧
    rV (mv 52) (mv 53) (tv 11) (tv 12) (mi 2) (mi 3) (tv 10) A Z ∧ (mv 52 = -1 → b = 0) ∧ (mv 52 ≠ -1 → tv 16 = nI b) ∧ A ≤ D ∧ Z ≤ D + 1 ∧
    rV (mv 50) (mv 51) (tv 14) (tv 15) (mi 0) (mi 1) (tv 13) A0 Z0 ∧ A0 ≤ D ∧ Z0 ≤ D + 1 ∧ (mv 50 = -1 ∨ mv 52 = -1 ∨ Z0 < A)
/-- the machine -/
def rM (N : Nat) (mv : Nat → Int32) (mf : Nat → Nat → Int32) (mi : Nat → Nat) (tv : Nat → Int32) (tf : Nat → Nat → Int32) : Prop :=
  mv 8 = nI N ∧ tv 2 = nI N ∧ tv 4 = mv 10 ∧ tv 3 = mv 9 ∧ (mv 9 = 0 ∨ mv 9 = 1) ∧ rO (mf 0) (tf 0) ∧ rWd mf (tf 1) ∧ rC N (mv 15) (mv 16) (mv 17) (tv 7) (tv 8) (tv 9) ∧ rU (mv 30) (mv 31) (tv 17) (tv 18) ∧
    rR rT N (mv 41) (mv 42) (mv 43) (mv 44) (mv 45) (mv 46) (mf 9) (tv 19) (tv 20) (tv 23) (tv 24) (tf 21) (tf 22) ∧ rP N (mv 19) (mv 20) (tv 25) (tv 27) (mf 10) (tf 26) ∧ (mv 9 = 1 → rG 0 N mv mi tv)
/-- what the machine leaves alone of the model -/
def fT (tv : Nat → Int32) (tf : Nat → Nat → Int32) (tv1 : Nat → Int32) (tf1 : Nat → Nat → Int32) : Prop := (∀ k, 28 ≤ k → tv1 k = tv k) ∧ ∀ k, 27 ≤ k → tf1 k = tf k
theorem fT.rf {tv : Nat → Int32} {tf : Nat → Nat → Int32} : fT tv tf tv tf := ⟨fun _ _ => rfl, fun _ _ => rfl⟩
theorem fT.trans {a b c : Nat → Int32} {x y z : Nat → Nat → Int32} (h : fT a x b y) (h2 : fT b y c z) : fT a x c z := ⟨fun k hk => (h2.1 k hk).trans (h.1 k hk), fun k hk => (h2.2 k hk).trans (h.2 k hk)⟩
theorem within_sp (x : Int32) (n : Nat) (hn : n < 2 ^ 31) : ((∃ j, j < n ∧ x = nI j) ∧ F_DM_within x (nI n) = some 1) ∨ ((¬ ∃ j, j < n ∧ x = nI j) ∧ F_DM_within x (nI n) = some 0) := by
  unfold F_DM_within F_DM_within_13
  rcases pk_ix x hn with h | h | ⟨j, hj, rfl⟩
  · refine Or.inr ⟨?_, by rw [if_pos h]⟩
    rintro ⟨j, hj, rfl⟩
    exact nI_pos (by omega) h
  · refine Or.inr ⟨?_, by split; rfl; rfl⟩
    rintro ⟨j, hj, rfl⟩
    exact nI_ge hj hn h
  · exact Or.inl ⟨⟨j, hj, rfl⟩, by rw [if_neg (nI_pos (by omega)), if_neg (nI_ge hj hn)]⟩
theorem isOrder_sp (x y : Int32) : (((∃ i, i < 2 ∧ x = nI i) ∧ ∃ j, j < 32 ∧ y = nI j) ∧ F_Mo_isOrder x y = some 1) ∨ ((¬ ((∃ i, i < 2 ∧ x = nI i) ∧ ∃ j, j < 32 ∧ y = nI j)) ∧ F_Mo_isOrder x y = some 0) := by
  unfold F_Mo_isOrder F_Mo_isOrder_9 F_Mo_isOrder_23
  by_cases hx : ∃ i, i < 2 ∧ x = nI i
  · have hx2 : x = 0 ∨ x = 1 := by
      obtain ⟨i, hi, rfl⟩ := hx
      have : i = 0 ∨ i = 1 := by omega
      rcases this with rfl | rfl
      · exact Or.inl rfl
      · exact Or.inr rfl
    have e : (if x = (0 : Int32) then (if y < (0 : Int32) then (some (0 : Int32)) else (if (32 : Int32) ≤ y then (some (0 : Int32)) else (some (1 : Int32)))) else (if x = (1 : Int32) then (if y < (0 : Int32) then (some (0 : Int32)) else (if (32 : Int32) ≤ y then (some (0 : Int32)) else (some (1 : Int32)))) else (some (0 : Int32)))) = (if y < (0 : Int32) then (some (0 : Int32)) else (if (32 : Int32) ≤ y then (some (0 : Int32)) else (some (1 : Int32)))) := by
      rcases hx2 with rfl | rfl
      · rw [if_pos rfl]
      · rw [if_neg (by decide), if_pos rfl]
    rw [e]
    rcases pk_ix y (n := 32) (by decide) with h | h | ⟨j, hj, rfl⟩
    · refine Or.inr ⟨?_, by rw [if_pos h]⟩
      rintro ⟨-, j, hj, rfl⟩
      exact nI_pos (by omega) h
    · refine Or.inr ⟨?_, by rw [if_pos (show (32 : Int32) ≤ y from h)]; split; rfl; rfl⟩
      rintro ⟨-, j, hj, rfl⟩
      exact nI_ge hj (by decide) h
    · exact Or.inl ⟨⟨hx, j, hj, rfl⟩, by rw [if_neg (nI_pos (by omega)), if_neg (show ¬ (32 : Int32) ≤ nI j from nI_ge hj (by decide))]⟩
  · exact Or.inr ⟨fun h => hx h.1, by rw [if_neg (show ¬ x = 0 from fun h => hx ⟨0, by decide, h⟩), if_neg (show ¬ x = 1 from fun h => hx ⟨1, by decide, h⟩)]⟩
theorem i10 : ¬ (1 : Int32) = 0 := by decide
theorem ord_ix {i j : Nat} (hi : i < 2) (hj : j < 32) : (32 : Int32) * nI i + nI j = nI (32 * i + j) := by
  rw [show (32 : Int32) = nI 32 from rfl, pk_mul, nI_add]
theorem rO_up {a b : Nat → Int32} {k n : Nat} {x : Int32} (h : rO a b) (hx : x = nI n) (hn : n < 2097152) : rO (upd a k x) (upd b k x) := by
  intro j hj
  by_cases hk : j = k
  · subst hk
    rw [pk_us, pk_us]
    exact ⟨rfl, n, hn, hx⟩
  · rw [pk_un hk, pk_un hk]
    exact h j hj
/-- order(..) of both -/
theorem order_ok {N : Nat} {mv : Nat → Int32} {mf : Nat → Nat → Int32} {mi : Nat → Nat} {tv : Nat → Int32} {tf : Nat → Nat → Int32} (x1 x2 x3 : Int32) (h : rM N mv mf mi tv tf) :
    ∃ (r : Int32) (mf1 tf1 : Nat → Nat → Int32), F_DM_order x1 x2 x3 mv mf mi = some (r, mv, mf1, mi) ∧ F_Mo_order x1 x2 x3 tv tf = some (r, tv, tf1) ∧ rM N mv mf1 mi tv tf1 ∧ fT tv tf tv tf1 := by
  unfold F_DM_order F_Mo_order F_DM_order_26 F_Mo_order_18
  rcases isOrder_sp x1 x2 with ⟨⟨⟨i, hi, rfl⟩, j, hj, rfl⟩, e⟩ | ⟨hn, e⟩
  · have h1 : F_DM_within (nI i) (2 : Int32) = some 1 := (within_sp (nI i) 2 (by decide)).elim (fun h => h.2) (fun h => absurd ⟨i, hi, rfl⟩ h.1)
    have h2 : F_DM_within (nI j) (32 : Int32) = some 1 := (within_sp (nI j) 32 (by decide)).elim (fun h => h.2) (fun h => absurd ⟨j, hj, rfl⟩ h.1)
    rw [e, h1, h2, ord_ix hi hj]
    rcases within_sp x3 2097152 (by decide) with ⟨⟨n, hn, rfl⟩, e3⟩ | ⟨hn, e3⟩
    · have e3 : F_DM_within (nI n) (2097152 : Int32) = some 1 := e3
      have q1 : ¬ (nI (32 * i + j) < 0 ∨ 64 ≤ (nI (32 * i + j)).toNatClampNeg) := nI_in (by omega) (by decide)
      have q2 : ¬ nI n < (0 : Int32) := nI_pos (by omega)
      have q3 : nI n ≤ (2097151 : Int32) := nI_le (b := 2097151) (by omega) (by decide)
      refine ⟨1, va_up mf 0 (upd (mf 0) (32 * i + j) (nI n)), va_up tf 0 (upd (tf 0) (32 * i + j) (nI n)), ?_, ?_, ?_, fun _ _ => rfl, fun k hk => va_up_ne _ _ (by omega)⟩
      · simp only [Option.bind_some, e3, ↓if_neg q1, if_neg i10, nI_clamp (show 32 * i + j < 2 ^ 31 by omega)]
      · simp only [Option.bind_some, ↓if_neg q1, if_neg q2, if_pos q3, if_neg i10, nI_clamp (show 32 * i + j < 2 ^ 31 by omega)]
      · obtain ⟨a1, a2, a3, a4, a5, a6, a7, a8, a9, a10, a11, a12⟩ := h
        exact ⟨a1, a2, a3, a4, a5, rO_up a6 rfl hn, rWd_of a7 (fun k hk _ => va_up_ne _ _ (by omega)), a8, a9, a10, a11, a12⟩
    · have e3 : F_DM_within x3 (2097152 : Int32) = some 0 := e3
      refine ⟨0, mf, tf, by simp [e3], ?_, h, fT.rf⟩
      have q : x3 < 0 ∨ ¬ x3 ≤ (2097151 : Int32) := by
        rcases pk_ix x3 (n := 2097152) (by decide) with h | h | h
        · exact Or.inl h
        · refine Or.inr fun h2 => ?_
          have := Int32.le_trans h h2
          exact absurd this (by decide)
        · exact absurd h hn
      rcases q with q | q
      · simp [q]
      · simp [q]
  · refine ⟨0, mf, tf, ?_, by simp [e], h, fT.rf⟩
    rcases within_sp x1 2 (by decide) with ⟨h1, e1⟩ | ⟨h1, e1⟩
    · have e1 : F_DM_within x1 (2 : Int32) = some 1 := e1
      have e2 : F_DM_within x2 (32 : Int32) = some 0 := (within_sp x2 32 (by decide)).elim (fun h => absurd ⟨h1, h.1⟩ hn) (fun h => h.2)
      simp [e1, e2]
    · have e1 : F_DM_within x1 (2 : Int32) = some 0 := e1
      simp [e1]
