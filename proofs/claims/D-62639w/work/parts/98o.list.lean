/-- one order is listed -/
def lsR (i : Nat) (x1 x2 x3 x4 : Int32) (v : Nat → Int32) (f : Nat → Nat → Int32) (v1 : Nat → Int32) (f1 : Nat → Nat → Int32) : Prop :=
  v1 34 = nI (i + 1) ∧ (∀ k, k ≠ 34 → v1 k = v k) ∧ (f1 35 i = x1 ∧ f1 36 i = x2 ∧ f1 37 i = x3 ∧ f1 38 i = x4) ∧ (∀ k j, j < i → f1 k j = f k j) ∧ ∀ k, (k < 35 ∨ 38 < k) → f1 k = f k
theorem upd_k {f : Nat → Nat → Int32} {i j k : Nat} {q : Nat} {x : Int32} (g : Nat → Nat → Int32) (hj : j < i) (hg : f k j = g k j) : va_up f q (upd (f q) i x) k j = g k j := by
  by_cases hk : k = q
  · subst hk
    rw [va_up_self, pk_un (by omega)]
    exact hg
  · rw [va_up_ne _ _ hk]
    exact hg
theorem list_ok {v : Nat → Int32} {f : Nat → Nat → Int32} {i : Nat} (x1 x2 x3 x4 : Int32) (hi : i < 64) (h : v 34 = nI i) : ∃ v1 f1, F_Mo_list x1 x2 x3 x4 v f = some (v1, f1) ∧ lsR i x1 x2 x3 x4 v f v1 f1 := by
  have q : ¬ (v 34 < 0 ∨ 64 ≤ (v 34).toNatClampNeg) := by rw [h]; exact nI_in hi (by decide)
  unfold F_Mo_list
  rw [if_neg q, if_neg q, if_neg q, if_neg q]
  have hc : (v 34).toNatClampNeg = i := by rw [h, nI_clamp (by omega)]
  rw [hc]
  refine ⟨_, _, rfl, ?_, fun k hk => va_up_ne _ _ hk, ⟨?_, ?_, ?_, ?_⟩, fun k j hj => ?_, fun k hk => ?_⟩
  · rw [va_up_self, h, nI_1]
  · rw [va_up_ne _ _ (by decide), va_up_ne _ _ (by decide), va_up_ne _ _ (by decide), va_up_self, pk_us]
  · rw [va_up_ne _ _ (by decide), va_up_ne _ _ (by decide), va_up_self, pk_us]
  · rw [va_up_ne _ _ (by decide), va_up_self, pk_us]
  · rw [va_up_self, pk_us]
  · exact upd_k f hj (upd_k f hj (upd_k f hj (upd_k f hj rfl)))
  · rw [va_up_ne _ _ (by omega), va_up_ne _ _ (by omega), va_up_ne _ _ (by omega), va_up_ne _ _ (by omega)]
/-- some orders are listed, from i to i1 -/
def lsM (i i1 : Nat) (v : Nat → Int32) (f : Nat → Nat → Int32) (v1 : Nat → Int32) (f1 : Nat → Nat → Int32) : Prop :=
  v1 34 = nI i1 ∧ (∀ k, k ≠ 34 → v1 k = v k) ∧ (∀ k j, j < i → f1 k j = f k j) ∧ ∀ k, (k < 35 ∨ 38 < k) → f1 k = f k
theorem lsR.m {i : Nat} {x1 x2 x3 x4 : Int32} {v : Nat → Int32} {f : Nat → Nat → Int32} {v1 : Nat → Int32} {f1 : Nat → Nat → Int32} (h : lsR i x1 x2 x3 x4 v f v1 f1) : lsM i (i + 1) v f v1 f1 := ⟨h.1, h.2.1, h.2.2.2.1, h.2.2.2.2⟩
theorem lsM.tr {i i1 i2 : Nat} {v v1 v2 : Nat → Int32} {f f1 f2 : Nat → Nat → Int32} (h : lsM i i1 v f v1 f1) (h2 : lsM i1 i2 v1 f1 v2 f2) (hi : i ≤ i1) : lsM i i2 v f v2 f2 :=
  ⟨h2.1, fun k hk => (h2.2.1 k hk).trans (h.2.1 k hk), fun k j hj => (h2.2.2.1 k j (by omega)).trans (h.2.2.1 k j hj), fun k hk => (h2.2.2.2 k hk).trans (h.2.2.2 k hk)⟩
theorem ent.of {i a b k : Nat} {x : Int32} {v : Nat → Int32} {f : Nat → Nat → Int32} {v1 : Nat → Int32} {f1 : Nat → Nat → Int32} (h : lsR i (nI a) (nI b) x (nI k) v f v1 f1) : ent f1 i a b x k := ⟨h.2.2.1.1, h.2.2.1.2.1, h.2.2.1.2.2.1, h.2.2.1.2.2.2⟩
theorem ent.lt {i a b k : Nat} {x : Int32} {f f1 : Nat → Nat → Int32} (h : ent f i a b x k) (h1 : ∀ k, f1 k i = f k i) : ent f1 i a b x k := by
  unfold ent
  rw [h1, h1, h1, h1]
  exact h
theorem entP.lt {i k o : Nat} {s : Nat → Int32} {f f1 : Nat → Nat → Int32} (h : entP f i k o s) (h1 : ∀ k j, j < i + szo o → f1 k j = f k j) : entP f1 i k o s := by
  obtain ⟨w0, w1, w2, w3, w4, w5, w6⟩ := h
  refine ⟨fun q => ?_, fun q => ?_, fun q => ?_, fun q => ?_, fun q => ?_, fun q => ?_, fun q => ?_⟩
  · subst q
    have h1 : ∀ k j, j < i + 3 → f1 k j = f k j := h1
    exact ⟨(w0 rfl).1.lt (fun k => h1 k _ (by omega)), (w0 rfl).2.1.lt (fun k => h1 k _ (by omega)), (w0 rfl).2.2.lt (fun k => h1 k _ (by omega))⟩
  · subst q
    have h1 : ∀ k j, j < i + 3 → f1 k j = f k j := h1
    exact ⟨(w1 rfl).1.lt (fun k => h1 k _ (by omega)), (w1 rfl).2.1.lt (fun k => h1 k _ (by omega)), (w1 rfl).2.2.lt (fun k => h1 k _ (by omega))⟩
  · subst q
    have h1 : ∀ k j, j < i + 2 → f1 k j = f k j := h1
    exact ⟨(w2 rfl).1.lt (fun k => h1 k _ (by omega)), (w2 rfl).2.lt (fun k => h1 k _ (by omega))⟩
  · subst q
    have h1 : ∀ k j, j < i + 1 → f1 k j = f k j := h1
    exact (w3 rfl).lt (fun k => h1 k _ (by omega))
  · subst q
    have h1 : ∀ k j, j < i + 3 → f1 k j = f k j := h1
    exact ⟨(w4 rfl).1.lt (fun k => h1 k _ (by omega)), (w4 rfl).2.1.lt (fun k => h1 k _ (by omega)), (w4 rfl).2.2.lt (fun k => h1 k _ (by omega))⟩
  · subst q
    have h1 : ∀ k j, j < i + 1 → f1 k j = f k j := h1
    exact (w5 rfl).lt (fun k => h1 k _ (by omega))
  · subst q
    have h1 : ∀ k j, j < i + 1 → f1 k j = f k j := h1
    exact (w6 rfl).lt (fun k => h1 k _ (by omega))
theorem entP_0 {i k : Nat} {s : Nat → Int32} {f : Nat → Nat → Int32} (h1 : ent f i 2 6 (s 1) k) (h2 : ent f (i + 1) 2 9 (s 2) k) (h3 : ent f (i + 2) 6 2 (s 3) k) : entP f i k 0 s :=
  ⟨fun _ => ⟨h1, h2, h3⟩, fun q => absurd q (by decide), fun q => absurd q (by decide), fun q => absurd q (by decide), fun q => absurd q (by decide), fun q => absurd q (by decide), fun q => absurd q (by decide)⟩
theorem entP_1 {i k : Nat} {s : Nat → Int32} {f : Nat → Nat → Int32} (h1 : ent f i 2 6 (s 1) k) (h2 : ent f (i + 1) 2 10 (s 2) k) (h3 : ent f (i + 2) 6 2 (s 3) k) : entP f i k 1 s :=
  ⟨fun q => absurd q (by decide), fun _ => ⟨h1, h2, h3⟩, fun q => absurd q (by decide), fun q => absurd q (by decide), fun q => absurd q (by decide), fun q => absurd q (by decide), fun q => absurd q (by decide)⟩
theorem entP_2 {i k : Nat} {s : Nat → Int32} {f : Nat → Nat → Int32} (h1 : ent f i 2 6 (s 1) k) (h3 : ent f (i + 1) 6 2 (s 3) k) : entP f i k 2 s :=
  ⟨fun q => absurd q (by decide), fun q => absurd q (by decide), fun _ => ⟨h1, h3⟩, fun q => absurd q (by decide), fun q => absurd q (by decide), fun q => absurd q (by decide), fun q => absurd q (by decide)⟩
theorem entP_3 {i k : Nat} {s : Nat → Int32} {f : Nat → Nat → Int32} (h1 : ent f i 2 15 (s 1) k) : entP f i k 3 s :=
  ⟨fun q => absurd q (by decide), fun q => absurd q (by decide), fun q => absurd q (by decide), fun _ => h1, fun q => absurd q (by decide), fun q => absurd q (by decide), fun q => absurd q (by decide)⟩
theorem entP_4 {i k : Nat} {s : Nat → Int32} {f : Nat → Nat → Int32} (h1 : ent f i 2 11 (s 1) k) (h2 : ent f (i + 1) 0 0 (-1) k) (h3 : ent f (i + 2) 0 0 (-1) k) : entP f i k 4 s :=
  ⟨fun q => absurd q (by decide), fun q => absurd q (by decide), fun q => absurd q (by decide), fun q => absurd q (by decide), fun _ => ⟨h1, h2, h3⟩, fun q => absurd q (by decide), fun q => absurd q (by decide)⟩
theorem entP_5 {i k : Nat} {s : Nat → Int32} {f : Nat → Nat → Int32} (h1 : ent f i 13 2 (s 3) k) : entP f i k 5 s :=
  ⟨fun q => absurd q (by decide), fun q => absurd q (by decide), fun q => absurd q (by decide), fun q => absurd q (by decide), fun q => absurd q (by decide), fun _ => h1, fun q => absurd q (by decide)⟩
theorem entP_6 {i k : Nat} {s : Nat → Int32} {f : Nat → Nat → Int32} (h1 : ent f i 0 1 (-1) k) : entP f i k 6 s :=
  ⟨fun q => absurd q (by decide), fun q => absurd q (by decide), fun q => absurd q (by decide), fun q => absurd q (by decide), fun q => absurd q (by decide), fun q => absurd q (by decide), fun _ => h1⟩
theorem list107 {v : Nat → Int32} {f : Nat → Nat → Int32} {i k : Nat} (K : Int32 → (Nat → Int32) → (Nat → Nat → Int32) → Option ((Nat → Int32) × (Nat → Nat → Int32))) (b : Nat) (y z : Int32) (hi : i + 1 < 64) (h : v 34 = nI i) : ∃ v1 f1, F_Mo_listAll_107 K (nI k) y z (nI b) v f = K (nI (k + 1)) v1 f1 ∧ lsM i (i + 2) v f v1 f1 ∧ ent f1 i 2 b y k ∧ ent f1 (i + 1) 6 2 z k := by
  obtain ⟨v1, f1, a1, a2⟩ := list_ok (f := f) (nI 2) (nI b) y (nI k) (show i < 64 by omega) h
  obtain ⟨v2, f2, b1, b2⟩ := list_ok (f := f1) (nI 6) (nI 2) z (nI k) hi a2.1
  have a1 : F_Mo_list 2 (nI b) y (nI k) v f = some (v1, f1) := a1
  have b1 : F_Mo_list 6 2 z (nI k) v1 f1 = some (v2, f2) := b1
  refine ⟨v2, f2, ?_, a2.m.tr b2.m (by omega), (ent.of a2).lt (fun k => b2.2.2.2.1 k _ (by omega)), ent.of b2⟩
  unfold F_Mo_listAll_107 F_Mo_listAll_208
  rw [a1, Option.bind_some]
  dsimp only
  rw [b1, Option.bind_some]
  dsimp only
  rw [nI_1]
theorem list_step {t : Nat → Nat → Int32} {v : Nat → Int32} {f : Nat → Nat → Int32} {i k n o : Nat} (q : Nat) (hn : n ≤ 12) (hk : k < n) (hi : i + 2 < 64) (h34 : v 34 = nI i) (h28 : v 28 = nI n) (h29 : f 29 k = nI o) (ho : o < 7) (h30 : f 30 k = t k 1) (h31 : f 31 k = t k 2) (h32 : f 32 k = t k 3) :
    ∃ v1 f1, F_Mo_listAll_7 (q + 1) (nI k) v f = F_Mo_listAll_7 q (nI (k + 1)) v1 f1 ∧ lsM i (i + szo o) v f v1 f1 ∧ entP f1 i k o (t k) := by
  have hr : ¬ (nI k < 0 ∨ 12 ≤ (nI k).toNatClampNeg) := nI_in (by omega) (by decide)
  have hr' : ¬ (nI k < 0 ∨ 12 ≤ k) := nI_in' (by omega) (by decide)
  rw [F_Mo_listAll_7, if_neg (show ¬ v 28 ≤ nI k by rw [h28]; exact nI_ge hk (by omega)), if_neg hr, if_neg hr, if_neg hr, if_neg hr, nI_clamp (n := k) (by omega), h29, h30, h31, h32]
  have hq : o = 0 ∨ o = 1 ∨ o = 2 ∨ o = 3 ∨ o = 4 ∨ o = 5 ∨ o = 6 := by omega
  rcases hq with rfl | rfl | rfl | rfl | rfl | rfl | rfl
  · rw [if_pos (show nI 0 = (0 : Int32) from rfl)]
    obtain ⟨v1, f1, a1, a2⟩ := list_ok (f := f) (nI 2) (nI 6) (t k 1) (nI k) (show i < 64 by omega) h34
    have a1 : F_Mo_list 2 6 (t k 1) (nI k) v f = some (v1, f1) := a1
    obtain ⟨v2, f2, b1, b2, b3, b4⟩ := list107 (f := f1) (k := k) (F_Mo_listAll_7 q) 9 (t k 2) (t k 3) (show i + 1 + 1 < 64 by omega) a2.1
    rw [a1, Option.bind_some]
    dsimp only
    have e29 : f1 29 k = 0 := by rw [a2.2.2.2.2 29 (by decide)]; exact h29
    rw [if_neg hr', if_pos e29]
    exact ⟨v2, f2, b1, a2.m.tr b2 (by omega), entP_0 ((ent.of a2).lt (fun k => b2.2.2.1 k _ (by omega))) b3 b4⟩
  · rw [if_neg (by decide), if_pos (show nI 1 = (1 : Int32) from rfl)]
    obtain ⟨v1, f1, a1, a2⟩ := list_ok (f := f) (nI 2) (nI 6) (t k 1) (nI k) (show i < 64 by omega) h34
    have a1 : F_Mo_list 2 6 (t k 1) (nI k) v f = some (v1, f1) := a1
    obtain ⟨v2, f2, b1, b2, b3, b4⟩ := list107 (f := f1) (k := k) (F_Mo_listAll_7 q) 10 (t k 2) (t k 3) (show i + 1 + 1 < 64 by omega) a2.1
    rw [a1, Option.bind_some]
    dsimp only
    have e29 : ¬ f1 29 k = 0 := by rw [a2.2.2.2.2 29 (by decide), h29]; decide
    rw [if_neg hr', if_neg e29]
    exact ⟨v2, f2, b1, a2.m.tr b2 (by omega), entP_1 ((ent.of a2).lt (fun k => b2.2.2.1 k _ (by omega))) b3 b4⟩
  · rw [if_neg (by decide), if_neg (by decide), if_pos (show nI 2 = (2 : Int32) from rfl)]
    obtain ⟨v1, f1, a1, a2⟩ := list_ok (f := f) (nI 2) (nI 6) (t k 1) (nI k) (show i < 64 by omega) h34
    have a1 : F_Mo_list 2 6 (t k 1) (nI k) v f = some (v1, f1) := a1
    obtain ⟨v2, f2, b1, b2⟩ := list_ok (f := f1) (nI 6) (nI 2) (t k 3) (nI k) (show i + 1 < 64 by omega) a2.1
    have b1 : F_Mo_list 6 2 (t k 3) (nI k) v1 f1 = some (v2, f2) := b1
    rw [a1, Option.bind_some]
    dsimp only
    rw [b1, Option.bind_some]
    unfold F_Mo_listAll_208
    dsimp only
    rw [nI_1]
    exact ⟨v2, f2, rfl, a2.m.tr b2.m (by omega), entP_2 ((ent.of a2).lt (fun k => b2.2.2.2.1 k _ (by omega))) (ent.of b2)⟩
  · rw [if_neg (by decide), if_neg (by decide), if_neg (by decide), if_pos (show nI 3 = (3 : Int32) from rfl)]
    obtain ⟨v1, f1, a1, a2⟩ := list_ok (f := f) (nI 2) (nI 15) (t k 1) (nI k) (show i < 64 by omega) h34
    have a1 : F_Mo_list 2 15 (t k 1) (nI k) v f = some (v1, f1) := a1
    rw [a1, Option.bind_some]
    unfold F_Mo_listAll_208
    dsimp only
    rw [nI_1]
    exact ⟨v1, f1, rfl, a2.m, entP_3 (ent.of a2)⟩
  · rw [if_neg (by decide), if_neg (by decide), if_neg (by decide), if_neg (by decide), if_pos (show nI 4 = (4 : Int32) from rfl)]
    obtain ⟨v1, f1, a1, a2⟩ := list_ok (f := f) (nI 2) (nI 11) (t k 1) (nI k) (show i < 64 by omega) h34
    have a1 : F_Mo_list 2 11 (t k 1) (nI k) v f = some (v1, f1) := a1
    obtain ⟨v2, f2, b1, b2⟩ := list_ok (f := f1) (nI 0) (nI 0) (-1) (nI k) (show i + 1 < 64 by omega) a2.1
    have b1 : F_Mo_list 0 0 (-1) (nI k) v1 f1 = some (v2, f2) := b1
    obtain ⟨v3, f3, c1, c2⟩ := list_ok (f := f2) (nI 0) (nI 0) (-1) (nI k) (show i + 1 + 1 < 64 by omega) b2.1
    have c1 : F_Mo_list 0 0 (-1) (nI k) v2 f2 = some (v3, f3) := c1
    rw [a1, Option.bind_some]
    dsimp only
    rw [b1, Option.bind_some]
    dsimp only
    rw [c1, Option.bind_some]
    unfold F_Mo_listAll_208
    dsimp only
    rw [nI_1]
    exact ⟨v3, f3, rfl, a2.m.tr (b2.m.tr c2.m (by omega)) (by omega), entP_4 (((ent.of a2).lt (fun k => b2.2.2.2.1 k _ (by omega))).lt (fun k => c2.2.2.2.1 k _ (by omega))) ((ent.of b2).lt (fun k => c2.2.2.2.1 k _ (by omega))) (ent.of c2)⟩
  · rw [if_neg (by decide), if_neg (by decide), if_neg (by decide), if_neg (by decide), if_neg (by decide), if_pos (show nI 5 = (5 : Int32) from rfl)]
    obtain ⟨v1, f1, a1, a2⟩ := list_ok (f := f) (nI 13) (nI 2) (t k 3) (nI k) (show i < 64 by omega) h34
    have a1 : F_Mo_list 13 2 (t k 3) (nI k) v f = some (v1, f1) := a1
    rw [a1, Option.bind_some]
    unfold F_Mo_listAll_208
    dsimp only
    rw [nI_1]
    exact ⟨v1, f1, rfl, a2.m, entP_5 (ent.of a2)⟩
  · rw [if_neg (by decide), if_neg (by decide), if_neg (by decide), if_neg (by decide), if_neg (by decide), if_neg (by decide)]
    obtain ⟨v1, f1, a1, a2⟩ := list_ok (f := f) (nI 0) (nI 1) (-1) (nI k) (show i < 64 by omega) h34
    have a1 : F_Mo_list 0 1 (-1) (nI k) v f = some (v1, f1) := a1
    rw [a1, Option.bind_some]
    unfold F_Mo_listAll_208
    dsimp only
    rw [nI_1]
    exact ⟨v1, f1, rfl, a2.m, entP_6 (ent.of a2)⟩
/-- the model's list, whole -/
def Lst (n Lz : Nat) (o : Nat → Nat) (t f : Nat → Nat → Int32) : Prop :=
  (∀ k, k < n → entP f (off o k) k (o k) (t k)) ∧ (Lz = off o n + if o (n - 1) = 6 then 0 else 1) ∧ (o (n - 1) ≠ 6 → f 35 (off o n) = nI 0 ∧ f 36 (off o n) = nI 1 ∧ f 37 (off o n) = -1 ∧ f 38 (off o n) = -1)
theorem list_lp {t tf : Nat → Nat → Int32} {tv : Nat → Int32} {n : Nat} {o : Nat → Nat} (hn : n ≤ 12) (hn0 : 0 < n) (hs : ∀ k, k < n → tf 29 k = nI (o k) ∧ o k < 7 ∧ tf 30 k = t k 1 ∧ tf 31 k = t k 2 ∧ tf 32 k = t k 3) (h28 : tv 28 = nI n) :
    ∀ (d k q : Nat) (v : Nat → Int32) (f : Nat → Nat → Int32), k + d = n → d < q → v 34 = nI (off o k) → (∀ k, k ≠ 34 → v k = tv k) → (∀ k, (k < 35 ∨ 38 < k) → f k = tf k) → (∀ k', k' < k → entP f (off o k') k' (o k') (t k')) →
      ∃ v1 f1 Lz, F_Mo_listAll_7 q (nI k) v f = some (v1, f1) ∧ v1 34 = nI Lz ∧ Lz ≤ 37 ∧ Lst n Lz o t f1 ∧ (∀ k, k ≠ 34 → v1 k = tv k) ∧ ∀ k, (k < 35 ∨ 38 < k) → f1 k = tf k := by
  intro d
  induction d with
  | zero =>
    intro k q v f hk hq h34 hv hf he
    have hk : k = n := hk
    subst hk
    obtain ⟨q, rfl⟩ : ∃ p, q = p + 1 := ⟨q - 1, by omega⟩
    have hv28 : v 28 = nI k := (hv 28 (by decide)).trans h28
    have hk1 : nI k - 1 = nI (k - 1) := by
      have := nI_1 (k - 1)
      rw [show k - 1 + 1 = k by omega] at this
      rw [← this, Int32.add_sub_cancel]
    have ho := off_le o k
    rw [F_Mo_listAll_7, hv28, if_pos (nI_le (Nat.le_refl _) (by omega)), hk1, if_neg (nI_in (show k - 1 < 12 by omega) (by decide)), nI_clamp (by omega), hf 29 (by decide), (hs (k - 1) (by omega)).1]
    by_cases h6 : o (k - 1) = 6
    · rw [h6, if_pos (show nI 6 = (6 : Int32) from rfl)]
      exact ⟨v, f, off o k, rfl, h34, by omega, ⟨he, by rw [if_pos h6]; rfl, fun q => absurd h6 q⟩, hv, hf⟩
    · have ho7 := (hs (k - 1) (by omega)).2.1
      rw [if_neg (show ¬ nI (o (k - 1)) = (6 : Int32) from fun q => h6 ((nI_eq (b := 6) (by omega) (by decide)).mp q))]
      obtain ⟨v1, f1, a1, a2⟩ := list_ok (f := f) (nI 0) (nI 1) (-1) (-1) (show off o k < 64 by omega) h34
      have a1 : F_Mo_list 0 1 (-1) (-1) v f = some (v1, f1) := a1
      rw [a1, Option.bind_some]
      refine ⟨v1, f1, off o k + 1, rfl, a2.1, by omega, ⟨fun k' hk' => (he k' hk').lt (fun kk j hj => a2.2.2.2.1 kk j ?_), by rw [if_neg h6], fun _ => a2.2.2.1⟩, fun k hk => (a2.2.1 k hk).trans (hv k hk), fun k hk => (a2.2.2.2.2 k hk).trans (hf k hk)⟩
      have := off_sz (o := o) hk'
      omega
  | succ d ih =>
    intro k q v f hk hq h34 hv hf he
    obtain ⟨q, rfl⟩ : ∃ p, q = p + 1 := ⟨q - 1, by omega⟩
    obtain ⟨s1, s2, s3, s4, s5⟩ := hs k (by omega)
    have ho := off_le o k
    obtain ⟨v1, f1, a1, a2, a3⟩ := list_step (t := t) (v := v) (f := f) (o := o k) q hn (show k < n by omega) (by omega) h34 ((hv 28 (by decide)).trans h28) (by rw [hf 29 (by decide)]; exact s1) s2 (by rw [hf 30 (by decide)]; exact s3) (by rw [hf 31 (by decide)]; exact s4) (by rw [hf 32 (by decide)]; exact s5)
    rw [a1]
    refine ih (k + 1) q v1 f1 (by omega) (by omega) a2.1 (fun k hk => (a2.2.1 k hk).trans (hv k hk)) (fun k hk => (a2.2.2.2 k hk).trans (hf k hk)) (fun k' hk' => ?_)
    by_cases hkk : k' = k
    · subst hkk
      exact a3
    · refine (he k' (by omega)).lt (fun kk j hj => a2.2.2.1 kk j ?_)
      have := off_sz (o := o) (show k' < k by omega)
      omega
theorem listAll_ok {t tf : Nat → Nat → Int32} {tv : Nat → Int32} {n : Nat} {o : Nat → Nat} (hn : n ≤ 12) (hn0 : 0 < n) (hs : ∀ k, k < n → tf 29 k = nI (o k) ∧ o k < 7 ∧ tf 30 k = t k 1 ∧ tf 31 k = t k 2 ∧ tf 32 k = t k 3) (h28 : tv 28 = nI n) :
    ∃ v1 f1 Lz, F_Mo_listAll tv tf = some (v1, f1) ∧ v1 34 = nI Lz ∧ Lz ≤ 37 ∧ Lst n Lz o t f1 ∧ (∀ k, k ≠ 34 → v1 k = tv k) ∧ ∀ k, (k < 35 ∨ 38 < k) → f1 k = tf k := by
  have := list_lp (t := t) (tf := tf) (tv := tv) hn hn0 hs h28 n 0 100 (va_up tv 34 0) tf (by omega) (by omega) rfl (fun k hk => va_up_ne _ _ hk) (fun _ _ => rfl) (fun k' hk' => absurd hk' (by omega))
  exact this
