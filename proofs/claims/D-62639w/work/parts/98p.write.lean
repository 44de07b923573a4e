theorem idx {o : Nat → Nat} : ∀ n i, i < off o n → ∃ k r, k < n ∧ r < szo (o k) ∧ i = off o k + r := by
  intro n
  induction n with
  | zero => exact fun i hi => absurd hi (Nat.not_lt_zero _)
  | succ n ih =>
    intro i hi
    by_cases h : i < off o n
    · obtain ⟨k, r, h1, h2, h3⟩ := ih i h
      exact ⟨k, r, by omega, h2, h3⟩
    · have hi : i < off o n + szo (o n) := hi
      exact ⟨n, i - off o n, by omega, by omega, by omega⟩
theorem ent38 {tf : Nat → Nat → Int32} {i k o r : Nat} {s : Nat → Int32} (h : entP tf i k o s) (ho : o < 7) (hr : r < szo o) : tf 38 (i + r) = nI k := by
  obtain ⟨w0, w1, w2, w3, w4, w5, w6⟩ := h
  have hq : o = 0 ∨ o = 1 ∨ o = 2 ∨ o = 3 ∨ o = 4 ∨ o = 5 ∨ o = 6 := by omega
  rcases hq with rfl | rfl | rfl | rfl | rfl | rfl | rfl
  · have hr : r < 3 := hr
    obtain ⟨e1, e2, e3⟩ := w0 rfl
    rcases (show r = 0 ∨ r = 1 ∨ r = 2 by omega) with rfl | rfl | rfl
    · exact e1.2.2.2
    · exact e2.2.2.2
    · exact e3.2.2.2
  · have hr : r < 3 := hr
    obtain ⟨e1, e2, e3⟩ := w1 rfl
    rcases (show r = 0 ∨ r = 1 ∨ r = 2 by omega) with rfl | rfl | rfl
    · exact e1.2.2.2
    · exact e2.2.2.2
    · exact e3.2.2.2
  · have hr : r < 2 := hr
    obtain ⟨e1, e2⟩ := w2 rfl
    rcases (show r = 0 ∨ r = 1 by omega) with rfl | rfl
    · exact e1.2.2.2
    · exact e2.2.2.2
  · have hr : r < 1 := hr
    rcases (show r = 0 by omega) with rfl
    exact (w3 rfl).2.2.2
  · have hr : r < 3 := hr
    obtain ⟨e1, e2, e3⟩ := w4 rfl
    rcases (show r = 0 ∨ r = 1 ∨ r = 2 by omega) with rfl | rfl | rfl
    · exact e1.2.2.2
    · exact e2.2.2.2
    · exact e3.2.2.2
  · have hr : r < 1 := hr
    rcases (show r = 0 by omega) with rfl
    exact (w5 rfl).2.2.2
  · have hr : r < 1 := hr
    rcases (show r = 0 by omega) with rfl
    exact (w6 rfl).2.2.2
/-- the four kinds of orders in the list -/
def clA (tf : Nat → Nat → Int32) (i : Nat) : Prop := ∃ a b, 0 < a ∧ a < 16 ∧ 2 ≤ b ∧ b < 16 ∧ tf 35 i = nI a ∧ tf 36 i = nI b
def clS (tf : Nat → Nat → Int32) (i : Nat) : Prop := tf 35 i = 0 ∧ tf 36 i = 1
def clF (tf : Nat → Nat → Int32) (i : Nat) : Prop := ∃ j, i = j + 1 ∧ tf 35 i = 0 ∧ tf 36 i = 0 ∧ tf 36 j = 11
def clG (n : Nat) (o : Nat → Nat) (tf : Nat → Nat → Int32) (i : Nat) : Prop := ∃ k, k < n ∧ o k = 4 ∧ i = off o k + 2 ∧ tf 35 i = 0 ∧ tf 36 i = 0 ∧ tf 35 (off o k + 1) = 0 ∧ tf 36 (off o k + 1) = 0 ∧ tf 36 (off o k) = 11 ∧ tf 38 i = nI k ∧ tf 38 (off o k) = nI k
theorem cls {n Lz i : Nat} {o : Nat → Nat} {t tf : Nat → Nat → Int32} (h : Lst n Lz o t tf) (ho : ∀ k, k < n → o k < 7) (hi : i < Lz) : clA tf i ∨ clS tf i ∨ clF tf i ∨ clG n o tf i := by
  obtain ⟨h1, h2, h3⟩ := h
  have A : ∀ {a b k : Nat} {x : Int32} {j : Nat}, ent tf j a b x k → 0 < a → a < 16 → 2 ≤ b → b < 16 → clA tf j ∨ clS tf j ∨ clF tf j ∨ clG n o tf j := fun e q1 q2 q3 q4 => Or.inl ⟨_, _, q1, q2, q3, q4, e.1, e.2.1⟩
  by_cases hio : i < off o n
  · obtain ⟨k, r, hk, hr, rfl⟩ := idx n i hio
    have ho7 := ho k hk
    obtain ⟨w0, w1, w2, w3, w4, w5, w6⟩ := h1 k hk
    have hq : o k = 0 ∨ o k = 1 ∨ o k = 2 ∨ o k = 3 ∨ o k = 4 ∨ o k = 5 ∨ o k = 6 := by omega
    rcases hq with q | q | q | q | q | q | q
    · rw [q] at hr
      have hr : r < 3 := hr
      obtain ⟨e1, e2, e3⟩ := w0 q
      rcases (show r = 0 ∨ r = 1 ∨ r = 2 by omega) with rfl | rfl | rfl
      · exact A e1 (by decide) (by decide) (by decide) (by decide)
      · exact A e2 (by decide) (by decide) (by decide) (by decide)
      · exact A e3 (by decide) (by decide) (by decide) (by decide)
    · rw [q] at hr
      have hr : r < 3 := hr
      obtain ⟨e1, e2, e3⟩ := w1 q
      rcases (show r = 0 ∨ r = 1 ∨ r = 2 by omega) with rfl | rfl | rfl
      · exact A e1 (by decide) (by decide) (by decide) (by decide)
      · exact A e2 (by decide) (by decide) (by decide) (by decide)
      · exact A e3 (by decide) (by decide) (by decide) (by decide)
    · rw [q] at hr
      have hr : r < 2 := hr
      obtain ⟨e1, e2⟩ := w2 q
      rcases (show r = 0 ∨ r = 1 by omega) with rfl | rfl
      · exact A e1 (by decide) (by decide) (by decide) (by decide)
      · exact A e2 (by decide) (by decide) (by decide) (by decide)
    · rw [q] at hr
      have hr : r < 1 := hr
      rcases (show r = 0 by omega) with rfl
      exact A (w3 q) (by decide) (by decide) (by decide) (by decide)
    · rw [q] at hr
      have hr : r < 3 := hr
      obtain ⟨e1, e2, e3⟩ := w4 q
      rcases (show r = 0 ∨ r = 1 ∨ r = 2 by omega) with rfl | rfl | rfl
      · exact A e1 (by decide) (by decide) (by decide) (by decide)
      · exact Or.inr (Or.inr (Or.inl ⟨off o k, rfl, e2.1, e2.2.1, e1.2.1⟩))
      · exact Or.inr (Or.inr (Or.inr ⟨k, hk, q, rfl, e3.1, e3.2.1, e2.1, e2.2.1, e1.2.1, e3.2.2.2, e1.2.2.2⟩))
    · rw [q] at hr
      have hr : r < 1 := hr
      rcases (show r = 0 by omega) with rfl
      exact A (w5 q) (by decide) (by decide) (by decide) (by decide)
    · rw [q] at hr
      have hr : r < 1 := hr
      rcases (show r = 0 by omega) with rfl
      exact Or.inr (Or.inl ⟨(w6 q).1, (w6 q).2.1⟩)
  · by_cases h6 : o (n - 1) = 6
    · rw [if_pos h6] at h2
      omega
    · rw [if_neg h6] at h2
      have : i = off o n := by omega
      subst this
      exact Or.inr (Or.inl ⟨(h3 h6).1, (h3 h6).2.1⟩)
theorem kd_A {tf : Nat → Nat → Int32} {i : Nat} (h : clA tf i) : kdT tf i = 0 ∧ nxT tf i = i + 1 := by
  obtain ⟨a, b, h1, h2, h3, h4, h5, h6⟩ := h
  exact kd_ord (k := 0) (x := tf 37 i) (tf := fun k j => if k = 38 then nI 0 else tf k j) ⟨h5, h6, rfl, rfl⟩ h3 h4
theorem kd_S {tf : Nat → Nat → Int32} {i : Nat} (h : clS tf i) : kdT tf i = 1 := by
  unfold kdT
  rw [if_pos h.2]
theorem kd_F {tf : Nat → Nat → Int32} {i : Nat} (h : clF tf i) : kdT tf i = 0 ∧ nxT tf i = i + 2 := by
  obtain ⟨j, rfl, h1, h2, h3⟩ := h
  unfold kdT nxT
  rw [h2, if_neg (by decide), Nat.add_sub_cancel, h3, if_neg (fun q => absurd q.2 (by decide)), if_pos rfl]
  exact ⟨rfl, rfl⟩
theorem kd_G {tf : Nat → Nat → Int32} {n i : Nat} {o : Nat → Nat} (h : clG n o tf i) : kdT tf i = 2 := by
  obtain ⟨k, h1, h2, rfl, h3, h4, h5, h6, h7⟩ := h
  unfold kdT
  rw [h4, if_neg (by decide), show off o k + 2 - 1 = off o k + 1 from rfl, h6, if_pos ⟨rfl, rfl⟩]
/-- the second orders of forks, and where they lead -/
theorem kd2 {n Lz i : Nat} {o : Nat → Nat} {t tf : Nat → Nat → Int32} (h : Lst n Lz o t tf) (ho : ∀ k, k < n → o k < 7) (hi : i < Lz) (h2 : kdT tf i = 2) : clG n o tf i := by
  rcases cls h ho hi with q | q | q | q
  · have := (kd_A q).1; omega
  · have := kd_S q; omega
  · have := (kd_F q).1; omega
  · exact q
theorem first_lp {n Lz k : Nat} {o : Nat → Nat} {t tf : Nat → Nat → Int32} {tv : Nat → Int32} (h : Lst n Lz o t tf) (ho : ∀ k, k < n → o k < 7) (hn : n ≤ 12) (hk : k < n) : ∀ (d j q : Nat), j + d = off o k → d < q → F_Mo_firstOf_2 (nI k) tv tf q (nI j) = some (nI (off o k)) := by
  have hol := off_le o k
  intro d
  induction d with
  | zero =>
    intro j q hj hq
    have hj : j = off o k := hj
    subst hj
    obtain ⟨q, rfl⟩ : ∃ p, q = p + 1 := ⟨q - 1, by omega⟩
    rw [F_Mo_firstOf_2, if_neg (nI_in (show off o k < 64 by omega) (by decide)), nI_clamp (by omega), if_pos (show tf 38 (off o k) = nI k from ent38 (r := 0) (h.1 k hk) (ho k hk) (szo_b _).1)]
  | succ d ih =>
    intro j q hj hq
    obtain ⟨q, rfl⟩ : ∃ p, q = p + 1 := ⟨q - 1, by omega⟩
    obtain ⟨k', r, h1, h2, h3⟩ := idx (o := o) k j (by omega)
    have h38 : tf 38 j = nI k' := by
      rw [h3]
      exact ent38 (h.1 k' (by omega)) (ho k' (by omega)) h2
    rw [F_Mo_firstOf_2, if_neg (nI_in (show j < 64 by omega) (by decide)), nI_clamp (n := j) (by omega), h38, if_neg (fun q => by have := (nI_eq (by omega) (by omega)).mp q; omega), nI_1]
    exact ih (j + 1) q (by omega) (by omega)
theorem first_ok {n Lz k : Nat} {o : Nat → Nat} {t tf : Nat → Nat → Int32} {tv : Nat → Int32} (h : Lst n Lz o t tf) (ho : ∀ k, k < n → o k < 7) (hn : n ≤ 12) (hk : k < n) : F_Mo_firstOf (nI k) tv tf = some (nI (off o k)) := by
  have hol := off_le o k
  exact first_lp (tv := tv) h ho hn hk (off o k) 0 100 (by omega) (by omega)
theorem w170 {i s : Nat} {tf : Nat → Nat → Int32} {tv : Nat → Int32} (l3 s0 : Int32) (hi : i < 64) (hs : s < 64) (h : ¬ tf 36 i = 1) : F_Mo_write_170 (nI i) (nI s) l3 s0 tv tf = some (tv, va_up tf 0 (upd (tf 0) s (ldx l3 (nI s) s0))) := by
  unfold F_Mo_write_170 ldx
  rw [if_neg (nI_in hi (by decide)), nI_clamp (n := i) (by omega), if_neg h, if_neg (nI_in hs (by decide)), nI_clamp (n := s) (by omega)]
theorem w170s {i s : Nat} {tf : Nat → Nat → Int32} {tv : Nat → Int32} (l3 s0 : Int32) (hi : i < 64) (hs : s < 64) (h : tf 36 i = 1) : F_Mo_write_170 (nI i) (nI s) l3 s0 tv tf = some (tv, va_up tf 0 (upd (tf 0) s 1015824)) := by
  unfold F_Mo_write_170
  rw [if_neg (nI_in hi (by decide)), nI_clamp (n := i) (by omega), if_pos h, if_neg (nI_in hs (by decide)), nI_clamp (n := s) (by omega)]
theorem nI_m1 {i : Nat} : nI (i + 1) - 1 = nI i := by
  rw [← nI_1, Int32.add_sub_cancel]
theorem nI_m2 {i : Nat} : nI (i + 2) - 2 = nI i := by
  have : nI i + 2 = nI (i + 2) := nI_add i 2
  rw [← this, Int32.add_sub_cancel]
theorem i01 : ¬ (0 : Int32) = 1 := by decide
theorem write_ok {n Lz i s : Nat} {o g : Nat → Nat} {t tf : Nat → Nat → Int32} {tv : Nat → Int32} (h : Lst n Lz o t tf) (ho : ∀ k, k < n → o k < 7) (hn : n ≤ 12) (hL : tv 34 = nI Lz) (hL2 : Lz ≤ 37) (hi : i < Lz) (hs : s < 64) (h39 : tf 39 i = nI s) (hnx : kdT tf i = 0 → nxT tf i < Lz) (hg : ∀ k, k < n → o k = 4 → g (off o k + 2) < n ∧ tf 33 k = nI (g (off o k + 2))) :
    ∃ W, F_Mo_write (nI i) tv tf = some (tv, va_up tf 0 (upd (tf 0) s W)) ∧ (kdT tf i = 0 → W = ldx (bse tf i) (tf 39 i) (tf 39 (nxT tf i))) ∧ (kdT tf i = 1 → W = 1015824) ∧ (kdT tf i = 2 → W = ldx (bse tf i) (tf 39 i) (tf 39 (off o (g i)))) := by
  have hr : ¬ (nI i < 0 ∨ 64 ≤ (nI i).toNatClampNeg) := nI_in (by omega) (by decide)
  have hr' : ¬ (nI i < 0 ∨ 64 ≤ i) := nI_in' (by omega) (by decide)
  unfold F_Mo_write
  rw [if_neg hr, if_neg hr, if_neg hr, if_neg hr, if_neg hr, nI_clamp (n := i) (by omega)]
  have eb : (tf 35 i ||| (tf 36 i <<< ((4 : Int32) &&& 31))) ||| (tf 40 i <<< ((10 : Int32) &&& 31)) = bse tf i := rfl
  rcases cls h ho hi with q | q | q | q
  · obtain ⟨k0, k1⟩ := kd_A q
    have hnx := hnx k0
    rw [k1] at hnx
    obtain ⟨a, b, h1, h2, h3, h4, h5, h6⟩ := q
    have e1 : ¬ tf 36 i = 1 := by
      rw [h6]
      intro q
      have := (nI_eq (b := 1) (by omega) (by decide)).mp q
      omega
    refine ⟨_, ?_, fun _ => rfl, fun q => by omega, fun q => by omega⟩
    rw [if_neg (show ¬ tf 35 i = 0 by rw [h5]; exact nI_ne0 (by omega) (by omega)), eb, h39]
    unfold F_Mo_write_55 F_Mo_write_56 F_Mo_write_101 F_Mo_write_102
    rw [if_pos rfl, if_pos rfl, hL, nI_1, if_neg (nI_ge hnx (by omega)), if_neg (nI_in (show i + 1 < 64 by omega) (by decide)), nI_clamp (n := i + 1) (by omega), w170 _ _ (by omega) hs e1, k1]
  · have k0 := kd_S q
    refine ⟨1015824, ?_, fun q => by omega, fun _ => rfl, fun q => by omega⟩
    rw [if_pos q.1, if_neg hr', if_neg (show ¬ tf 36 i = 0 by rw [q.2]; decide), eb, h39]
    unfold F_Mo_write_55 F_Mo_write_56 F_Mo_write_101 F_Mo_write_102
    rw [if_pos rfl, if_pos rfl, hL, nI_1, if_neg (nI_in (show i + 1 < 64 by omega) (by decide)), w170s _ _ (by omega) hs q.2, w170s _ _ (by omega) hs q.2, ite_self]
  · obtain ⟨k0, k1⟩ := kd_F q
    have hnx := hnx k0
    rw [k1] at hnx
    obtain ⟨j, hj, h1, h2, h3⟩ := q
    refine ⟨_, ?_, fun _ => rfl, fun q => by omega, fun q => by omega⟩
    rw [if_pos h1, if_neg hr', if_pos h2, eb, h39]
    unfold F_Mo_write_56 F_Mo_write_101 F_Mo_write_102
    have ej : nI i - 1 = nI j := by rw [hj]; exact nI_m1
    rw [if_neg i10, if_neg (nI_nle (show 0 < i by omega) (by omega)), ej, if_neg (nI_in (show j < 64 by omega) (by decide)), nI_clamp (n := j) (by omega), h3, if_neg (by decide), if_neg i10, if_pos rfl, show nI i + 2 = nI (i + 2) from nI_add i 2, if_neg (nI_in (show i + 2 < 64 by omega) (by decide)), nI_clamp (n := i + 2) (by omega), w170 _ _ (by omega) hs (by rw [h2]; decide), k1]
  · have k0 := kd_G q
    obtain ⟨k, h1, h2, hj, h3, h4, h5, h6, h7, h8, h9⟩ := q
    obtain ⟨g1, g2⟩ := hg k h1 h2
    rw [← hj] at g1 g2
    have ogl := off_le o (g i)
    refine ⟨_, ?_, fun q => by omega, fun q => by omega, fun _ => rfl⟩
    rw [if_pos h3, if_neg hr', if_pos h4, eb, h39]
    unfold F_Mo_write_56 F_Mo_write_102
    have ej : nI i - 1 = nI (off o k + 1) := by rw [hj]; exact nI_m1
    have ej2 : nI i - 2 = nI (off o k) := by rw [hj]; exact nI_m2
    have eS : F_Mo_isSecond (nI i) tv tf = some 1 := by
      unfold F_Mo_isSecond
      rw [if_neg hr, ej2, if_neg (nI_in (show off o k < 64 by omega) (by decide)), nI_clamp (n := i) (by omega), nI_clamp (n := off o k) (by omega), h8, h9, if_pos rfl, if_neg (nI_in' (show off o k < 64 by omega) (by decide)), h7, if_pos rfl]
    rw [if_neg i10, if_neg (nI_nle (show 0 < i by omega) (by omega)), ej, if_neg (nI_in (show off o k + 1 < 64 by omega) (by decide)), nI_clamp (n := off o k + 1) (by omega), h6, if_pos rfl, if_neg (nI_in' (show off o k + 1 < 64 by omega) (by decide)), h5, if_pos rfl, eS, Option.bind_some, if_neg i10, if_neg i10, if_neg i10, if_neg hr, nI_clamp (n := i) (by omega), h8, if_neg (nI_in (show k < 12 by omega) (by decide)), nI_clamp (n := k) (by omega), g2, first_ok h ho hn g1, Option.bind_some, if_neg (nI_in (show off o (g i) < 64 by omega) (by decide)), nI_clamp (n := off o (g i)) (by omega), w170 _ _ (by omega) hs (by rw [h4]; decide)]
theorem ldx_n {w p s : Nat} (hw : w < 32768) (hs : s < 64) : ∃ m, m < 2097152 ∧ ldx (nI w) (nI p) (nI s) = nI m := by
  unfold ldx
  obtain ⟨c, hc, hce⟩ := pk_andE ((nI s - nI p) - 2) (m := 31) 5 (by decide)
  have hc : c < 32 := hc
  rw [hce, pk_shlN _ 15 (by decide) (by omega), pk_shrN (n := s) (by omega) _ 5 (by decide), pk_shlN _ 20 (by decide) (by omega), nI_or _ _ (by omega) (by omega)]
  have h1 : w ||| c * 2 ^ 15 < 2 ^ 20 := Nat.or_lt_two_pow (by omega) (by omega)
  rw [nI_or _ _ (by omega) (by omega)]
  exact ⟨_, Nat.or_lt_two_pow (n := 21) (by omega) (by omega), rfl⟩
