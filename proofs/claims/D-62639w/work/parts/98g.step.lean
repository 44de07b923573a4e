theorem place_ok {t : Nat → Nat → Int32} {kd nx : Nat → Nat} {go : Nat → Int32} {i fr a b Lz : Nat} {v tv : Nat → Int32} {f u tf : Nat → Nat → Int32} {la : Nat → Option Nat} (x3 : Int32) (n : Nat) (hi : i < 37) (hJ : J0 i fr v f u tf) (hS : S0 kd nx go i u la tf) (ha : tf 35 i = nI a) (ha2 : a < 16) (hb : tf 36 i = nI b) (hb2 : b < 16) (hab : ¬ (a = 0 ∧ b = 0)) (hx : tf 37 i = x3) (hx2 : x3 = -1 ∨ ∃ c, c < 16 ∧ x3 = nI c) (hL : tv 34 = nI Lz) (hiL : i < Lz) (hL2 : Lz ≤ 64) :
    (F_As_place t (nI a) (nI b) x3 v f u la = some (none, va_up v 9 0, f, u, la) ∧ F_Mo_place_67 (n + 1) (nI fr) (nI i) tv tf = some (0, tv, tf)) ∨
    (∃ fr1 v1 f1 u1 tf1, F_As_place t (nI a) (nI b) x3 v f u la = some (some i, v1, f1, u1, va_up la 0 (some i)) ∧ F_Mo_place_67 (n + 1) (nI fr) (nI i) tv tf = F_Mo_place_67 n (nI fr1) (nI (i + 1)) tv tf1 ∧ J0 (i + 1) fr1 v1 f1 u1 tf1 ∧ (∀ j, j < i → sLed kd nx go u1 tf1 j ∧ (kd j = 0 → nx j < i + 1)) ∧ u1 i 2 = bse tf1 i ∧ u1 i 4 = -1 ∧ pF i f f1 tf tf1 v v1 ∧ (x3 = -1 → tf1 40 i = 0)) := by
  have hJ' := hJ
  obtain ⟨j1, j2, j3, j4, ⟨m, j5, j6, j7⟩, j8, j9, j10⟩ := hJ
  obtain ⟨z, z1, z2, z3⟩ := free_lp (t := t) (u := u) (la := la) (tv := tv) j4 j3 j8 32 0 100 (by omega) (by omega)
  have z1 : F_As_free t v f u la = some z := z1
  have z2 : F_Mo_free (nI fr) 0 tv tf = some z := z2
  have eM : F_Mo_place_67 (n + 1) (nI fr) (nI i) tv tf = F_Mo_place_111 (F_Mo_place_67 n) (nI i) 0 (nI fr) tv tf := by
    rw [F_Mo_place_67, hL, if_neg (nI_ge hiL (by omega)), if_neg (nI_in (by omega) (by decide)), nI_clamp (by omega), ha, hb]
    unfold F_Mo_place_97 F_Mo_place_98
    by_cases ha0 : a = 0
    · have hb0 : ¬ nI b = 0 := nI_ne0 (by omega) (by omega)
      rw [if_pos (by rw [ha0]; rfl), if_neg (nI_in' (by omega) (by decide)), if_neg hb0, if_pos rfl]
    · rw [if_neg (nI_ne0 (by omega) (by omega)), if_pos rfl]
  rw [eM]
  unfold F_As_place F_As_place_21 F_Mo_place_111
  rw [z1, z2, Option.bind_some, Option.bind_some, j1]
  rcases z3 with rfl | ⟨s, hs, rfl⟩
  · refine Or.inl ⟨?_, ?_⟩
    · rw [if_pos (by decide), if_pos (by decide), if_pos (by decide)]
      rfl
    · rw [if_neg (by decide)]
  · rw [if_neg (show ¬ nI s < 0 from nI_pos (by omega)), if_pos (by decide), if_neg (by decide), r32 (by omega), i11, up_id v 9 _ j1, if_pos (nI_pos' (by omega)), if_neg (nI_in hs (by decide)), if_neg (nI_in (show i < 64 by omega) (by decide)), if_neg (nI_in (show i < 64 by omega) (by decide)), if_pos rfl, if_neg (nI_in (show i < 64 by omega) (by decide)), nI_clamp (n := i) (by omega), nI_clamp (n := s) (by omega), hx]
    rcases hx2 with rfl | ⟨c, hc, rfl⟩
    · rw [if_pos (by decide), if_pos (by decide)]
      unfold F_As_place_52 F_Mo_place_240 F_Mo_place_255
      rw [if_pos (by decide)]
      obtain ⟨fr1, v1, f2, u1, p1, p2, p3, p4, p5, p6, p7⟩ := place_end (t := t) (w := 0) (f1 := f) (tf1 := va_up (va_up (va_up tf 41 (upd (tf 41) s 1)) 39 (upd (tf 39) i (nI s))) 40 (upd (tf 40) i 0)) (-1) hi hJ' hS hs (by decide) ha ha2 hb hb2 (fun _ _ _ => rfl) (fun _ _ => rfl) (fun k hk => by rw [va_up_ne _ _ (by omega), va_up_ne _ _ (by omega), va_up_ne _ _ (by omega)]) rfl rfl rfl (j9.of rfl rfl)
      refine Or.inr ⟨fr1, v1, f2, u1, va_up (va_up (va_up tf 41 (upd (tf 41) s 1)) 39 (upd (tf 39) i (nI s))) 40 (upd (tf 40) i 0), p1, ?_, p3, p4, p5, p6, p7, fun _ => pk_us⟩
      rw [if_neg (nI_in (show i < 64 by omega) (by decide)), nI_clamp (n := i) (by omega), nI_1]
      rw [show (va_up (va_up (va_up tf 41 (upd (tf 41) s 1)) 39 (upd (tf 39) i (nI s))) 40 (upd (tf 40) i 0)) 40 i = nI 0 from pk_us, p2]
    · have hcn : ¬ nI c < 0 := nI_pos (by omega)
      rw [if_neg hcn, if_neg hcn]
      obtain ⟨q, f1, tf1, s1, s2, s3, s4, s5, s6, s7, s8⟩ := settle_ok (t := t) (v := v) (f := f) (u := u) (la := la) (tv := tv) (tf := va_up (va_up (va_up tf 41 (upd (tf 41) s 1)) 39 (upd (tf 39) i (nI s))) 40 (upd (tf 40) i 0)) hc hs (j9.of rfl rfl)
      rw [s2, Option.bind_some, show nI s + 2 = nI (s + 2) from nI_add s 2, s3, Option.bind_some]
      unfold F_As_place_52 F_Mo_place_240 F_Mo_place_255
      obtain ⟨w, hw, hwe⟩ := pk_andE ((nI q - nI s) - 2) (m := 31) 5 (by decide)
      have hwe2 : ((nI q - nI (s % 32)) - 2) &&& 31 = nI w := by
        have := tm_eq ⟨q, by omega⟩ ⟨s, hs⟩
        rw [Nat.mod_eq_of_lt s1] at this
        rw [this]
        exact hwe
      dsimp only
      rw [if_neg hcn, if_neg (nI_in hc (by decide)), nI_clamp (n := c) (by omega), s5, hwe2, if_neg (nI_in' (show i < 64 by omega) (by decide)), hwe, if_neg (nI_in (show i < 64 by omega) (by decide)), nI_clamp (n := i) (by omega), nI_1]
      have t40 : tf1 40 = upd (tf 40) i 0 := s8 40 (by decide) (by decide)
      have tt40 : upd (tf1 40) i (nI w) = upd (tf 40) i (nI w) := by
        rw [t40]
        funext k
        by_cases hk : k = i
        · subst hk; rw [pk_us, pk_us]
        · rw [pk_un hk, pk_un hk, pk_un hk]
      obtain ⟨fr1, v1, f2, u1, p1, p2, p3, p4, p5, p6, p7⟩ := place_end (t := t) (w := w) (f1 := f1) (tf1 := va_up tf1 40 (upd (tf1 40) i (nI w))) (nI c) hi hJ' hS hs hw ha ha2 hb hb2 s6 s7 (fun k hk => by
        rw [va_up_ne _ _ (by omega), s8 k (by omega) (by omega), va_up_ne _ _ (by omega), va_up_ne _ _ (by omega), va_up_ne _ _ (by omega)]) (s8 41 (by decide) (by decide)) (s8 39 (by decide) (by decide)) tt40 (s4.of rfl rfl)
      refine Or.inr ⟨fr1, v1, f2, u1, va_up tf1 40 (upd (tf1 40) i (nI w)), p1, ?_, p3, p4, p5, p6, p7, fun q => absurd (show nI c < 0 by rw [q]; decide) hcn⟩
      rw [show (va_up tf1 40 (upd (tf1 40) i (nI w))) 40 i = nI w from pk_us, p2]
