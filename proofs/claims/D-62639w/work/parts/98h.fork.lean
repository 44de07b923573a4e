theorem sp2 : ∀ (a : Fin 2) (p : Fin 32), (nI (32 * a.val + p.val) &&& (32 : Int32)) ||| ((nI (32 * a.val + p.val) + 1) &&& (31 : Int32)) = nI (32 * a.val + (p.val + 1) % 32) := by decide +kernel
theorem fork_ok {t : Nat → Nat → Int32} {kd nx : Nat → Nat} {go : Nat → Int32} {i fr Lz : Nat} {v tv : Nat → Int32} {f u tf : Nat → Nat → Int32} {la : Nat → Option Nat} (x1 : Int32) (n : Nat) (hi : i + 1 < 37) (hJ : J0 i fr v f u tf) (hS : S0 kd nx go i u la tf) (ha : tf 35 i = 0) (hb : tf 36 i = 0) (ha' : tf 35 (i + 1) = 0) (hb' : tf 36 (i + 1) = 0) (hL : tv 34 = nI Lz) (hiL : i + 1 < Lz) (hL2 : Lz ≤ 64) (hk : kd i = 0) (hn : nx i = i + 2) (hk' : kd (i + 1) = 2) (hgo : go (i + 1) = x1) :
    (F_As_fork t x1 v f u la = some (va_up v 9 0, f, u, la) ∧ F_Mo_place_67 (n + 1) (nI fr) (nI i) tv tf = some (0, tv, tf)) ∨
    (∃ fr1 v1 f1 u1 la1 tf1, F_As_fork t x1 v f u la = some (v1, f1, u1, la1) ∧ F_Mo_place_67 (n + 1) (nI fr) (nI i) tv tf = F_Mo_place_67 n (nI fr1) (nI (i + 2)) tv tf1 ∧ J0 (i + 2) fr1 v1 f1 u1 tf1 ∧ S0 kd nx go (i + 2) u1 la1 tf1 ∧ pF i f f1 tf tf1 v v1 ∧ la1 0 ≠ none) := by
  have hJ' := hJ
  obtain ⟨j1, j2, j3, j4, ⟨m, j5, j6, j7⟩, j8, j9, j10⟩ := hJ
  have eM : F_Mo_place_67 (n + 1) (nI fr) (nI i) tv tf = F_Mo_place_111 (F_Mo_place_67 n) (nI i) 1 (nI (fr + 1)) tv tf := by
    rw [F_Mo_place_67, hL, if_neg (nI_ge (show i < Lz by omega) (by omega)), if_neg (nI_in (show i < 64 by omega) (by decide)), nI_clamp (by omega), ha, hb]
    unfold F_Mo_place_98
    rw [if_pos rfl, if_neg (nI_in' (show i < 64 by omega) (by decide)), if_pos rfl, if_neg i10, nI_1]
  rw [eM]
  unfold F_Mo_place_111 F_Mo_free
  have eC : F_As_fork t x1 v f u la = F_As_fork_7 t x1 100 (-1) 0 (nI (0 + 1)) v f u la := rfl
  rw [eC]
  rcases fork_lp (t := t) (u := u) (la := la) (tv := tv) x1 j4 j3 j1 j8 31 0 100 100 0 (by omega) (by omega) (by omega) with ⟨z1, L3, z2⟩ | ⟨a, p, ha2, hp, z1, z2⟩
  · have z1 : F_Mo_free_2 (nI (fr + 1)) 1 tv tf 100 0 = some (-1) := z1
    refine Or.inl ⟨?_, ?_⟩
    · rw [z2]
      unfold F_As_fork_72 F_As_fork_86
      rw [if_pos (by decide), j1, if_pos (by decide), if_pos (by decide)]
      rfl
    · rw [z1, Option.bind_some, if_neg (by decide)]
  · have z1 : F_Mo_free_2 (nI (fr + 1)) 1 tv tf 100 0 = some (nI (32 * a + p)) := z1
    have hs : 32 * a + p < 64 := by omega
    have hp1 : (p + 1) % 32 < 32 := Nat.mod_lt _ (by decide)
    have hs2 : 32 * a + (p + 1) % 32 < 64 := by omega
    obtain ⟨v1, u1, m1, p1, p2, p3, p4, p5, p6, p7⟩ := put_ok (t := t) (v := v) (f := f) (u := u) (la := la) (i := i) (m := m) (l := a) (p := p) 0 j5 j6 (by omega) j2 j7 ha2 hp hS.2
    obtain ⟨v2, u2, m2, q1, q2, q3, q4, q5, q6, q7⟩ := put_ok (t := t) (v := v1) (f := va_up f 3 (upd (f 3) (32 * a + p) 1)) (u := u1) (la := va_up (va_up la 0 (some i)) 0 none) (i := i + 1) (m := m1) (l := a) (p := (p + 1) % 32) 0 p2 p3 hi p5 p4 ha2 hp1 (fun j hj => by cases hj)
    have hsp := sp2 ⟨a, ha2⟩ ⟨p, hp⟩
    have hsp : (nI (32 * a + p) &&& (32 : Int32)) ||| ((nI (32 * a + p) + 1) &&& (31 : Int32)) = nI (32 * a + (p + 1) % 32) := hsp
    generalize hTF : (va_up (va_up (va_up (va_up (va_up (va_up tf 41 (upd (tf 41) (32 * a + p) 1)) 39 (upd (tf 39) i (nI (32 * a + p)))) 40 (upd (tf 40) i 0)) 39 (upd (upd (tf 39) i (nI (32 * a + p))) (i + 1) (nI (32 * a + (p + 1) % 32)))) 41 (upd (upd (tf 41) (32 * a + p) 1) (32 * a + (p + 1) % 32) 1)) 40 (upd (upd (tf 40) i 0) (i + 1) 0)) = tf1
    have t41 : tf1 41 = upd (upd (tf 41) (32 * a + p) 1) (32 * a + (p + 1) % 32) 1 := by rw [← hTF]; rfl
    have t39 : tf1 39 = upd (upd (tf 39) i (nI (32 * a + p))) (i + 1) (nI (32 * a + (p + 1) % 32)) := by rw [← hTF]; rfl
    have t40 : tf1 40 = upd (upd (tf 40) i 0) (i + 1) 0 := by rw [← hTF]; rfl
    have t42 : tf1 42 = tf 42 := by rw [← hTF]; rfl
    have t43 : tf1 43 = tf 43 := by rw [← hTF]; rfl
    have tk : ∀ k, (k < 39 ∨ 43 < k) → tf1 k = tf k := fun k hk => by
      rw [← hTF, va_up_ne _ _ (by omega), va_up_ne _ _ (by omega), va_up_ne _ _ (by omega), va_up_ne _ _ (by omega), va_up_ne _ _ (by omega), va_up_ne _ _ (by omega)]
    have hF : pF i f (va_up (va_up f 3 (upd (f 3) (32 * a + p) 1)) 3 (upd ((va_up f 3 (upd (f 3) (32 * a + p) 1)) 3) (32 * a + (p + 1) % 32) 1)) tf tf1 v (va_up v2 8 (nI ((p + 2) % 32))) := by
      refine ⟨tk, fun k k1 k2 => (va_up_ne _ _ k1).trans (va_up_ne _ _ k1), fun k k1 k2 k3 k4 => (va_up_ne _ _ k2).trans ((q6 k k1 k4).trans (p6 k k1 k4)), fun j hj => ?_⟩
      rw [t39, t40, pk_un (by omega), pk_un (by omega), pk_un (by omega), pk_un (by omega)]
      exact ⟨rfl, rfl⟩
    have h39 : tf1 39 i = nI (32 * a + p) := by rw [t39, pk_un (by omega), pk_us]
    have h39' : tf1 39 (i + 1) = nI (32 * a + (p + 1) % 32) := by rw [t39, pk_us]
    have hbs : bse tf1 i = 0 := by
      unfold bse
      rw [tk 35 (by decide), tk 36 (by decide), ha, hb, t40, pk_un (by omega), pk_us]
      decide
    have hbs' : bse tf1 (i + 1) = 0 := by
      unfold bse
      rw [tk 35 (by decide), tk 36 (by decide), ha', hb', t40, pk_us]
      decide
    obtain ⟨l1, l2⟩ := put_led hJ' hS p7 ha2 hp h39 hF
    obtain ⟨r1, r2, r3, r4, r5, r6⟩ := p7
    obtain ⟨w1, w2, w3, w4, w5, w6⟩ := q7
    have hU : ∀ j, j < i + 1 → (va_up u2 (i + 1) (va_up (u2 (i + 1)) 4 x1)) j = u1 j := fun j hj => by
      rw [va_up_ne _ _ (by omega)]
      exact w5 j hj (fun h => by cases h)
    refine Or.inr ⟨(p + 2) % 32, va_up v2 8 (nI ((p + 2) % 32)), _, va_up u2 (i + 1) (va_up (u2 (i + 1)) 4 x1), va_up (va_up (va_up (va_up la 0 (some i)) 0 none) 0 (some (i + 1))) 0 (some i), tf1, ?_, ?_, ⟨?_, q5, rfl, Nat.mod_lt _ (by decide), ⟨m2, q2, q3, q4⟩, ?_, ?_, ?_⟩, ⟨?_, ?_⟩, hF, fun q => by rw [va_up_self] at q; cases q⟩
    · rw [z2]
      unfold F_As_fork_72 F_As_fork_86
      rw [if_neg (show ¬ nI p < 0 from nI_pos (by omega)), j1, i11, if_pos (Or.inr rfl), if_neg i10, up_id v 9 _ j1, p1, Option.bind_some]
      have d1 : ¬ (v1 20).toNatClampNeg ≤ i := by rw [p4, nI_clamp (by omega)]; omega
      have d2 : ¬ (v2 20).toNatClampNeg ≤ i + 1 := by rw [q4, nI_clamp (by omega)]; omega
      dsimp only
      rw [if_neg d1, nI_1, r32 (by omega), q1, Option.bind_some]
      dsimp only
      rw [if_neg d2, show nI p + 2 = nI (p + 2) from nI_add p 2, r32 (by omega)]
    · rw [z1, Option.bind_some, if_pos (nI_pos' (by omega)), if_neg (nI_in hs (by decide)), if_neg (nI_in (show i < 64 by omega) (by decide)), if_neg (nI_in (show i < 64 by omega) (by decide)), if_neg i10, nI_1, nI_clamp (n := i) (by omega), nI_clamp (n := i + 1) (by omega), if_neg (nI_in' (show i + 1 < 64 by omega) (by decide)), if_neg (nI_in' (show i + 1 < 64 by omega) (by decide)), hsp, pk_us, if_neg (nI_in hs2 (by decide)), if_neg (nI_in' (show i + 1 < 64 by omega) (by decide)), i11, nI_clamp (n := 32 * a + p) (by omega), nI_clamp (n := 32 * a + (p + 1) % 32) (by omega), hTF]
      unfold F_Mo_place_255
      rw [nI_1, show nI (32 * a + p) + 2 = nI (32 * a + p + 2) from nI_add _ 2, m31 (by omega), show (32 * a + p + 2) % 32 = (p + 2) % 32 by omega]
    · exact (q6 9 (by decide) (by decide)).trans ((p6 9 (by decide) (by decide)).trans j1)
    · intro j hj
      show tf1 41 j = upd (upd (f 3) (32 * a + p) 1) (32 * a + (p + 1) % 32) 1 j
      rw [t41]
      by_cases h1 : j = 32 * a + (p + 1) % 32
      · subst h1; rw [pk_us, pk_us]
      · rw [pk_un h1, pk_un h1]
        by_cases h2 : j = 32 * a + p
        · subst h2; rw [pk_us, pk_us]
        · rw [pk_un h2, pk_un h2]
          exact j8 j hj
    · exact ((j9.of t42 t43).put hs).put hs2
    · intro j hj
      by_cases h1 : j = i + 1
      · subst h1
        refine ⟨32 * a + (p + 1) % 32, 0, hs2, by decide, h39', hbs', ?_, ?_⟩
        · rw [va_up_self]
          show u2 (i + 1) 0 = _
          rw [w1]
          exact congrArg nI (by omega)
        · rw [va_up_self]
          show u2 (i + 1) 1 = _
          rw [w2]
          exact congrArg nI (by omega)
      · rw [hU j (by omega)]
        by_cases h2 : j = i
        · subst h2
          refine ⟨32 * a + p, 0, hs, by decide, h39, hbs, ?_, ?_⟩
          · rw [r1]
            exact congrArg nI (by omega)
          · rw [r2]
            exact congrArg nI (by omega)
        · exact l2 j (by omega)
    · intro j hj
      by_cases h1 : j = i + 1
      · subst h1
        refine Or.inl ⟨⟨fun q => by omega, fun q => by omega, fun _ => ?_, fun q => absurd hk' q⟩, fun q => by omega, fun q => ?_⟩
        · rw [va_up_self]
          exact ⟨w3.trans hbs'.symm, hgo.symm⟩
        · rw [va_up_self] at q
          exact absurd (Option.some.inj q) (by omega)
      · by_cases h2 : j = i
        · subst h2
          refine Or.inr ⟨hk, hn, va_up_self _ _ _, ?_, ?_⟩
          · rw [hU j (by omega), hbs]; exact r3
          · rw [hU j (by omega)]; exact r4
        · obtain ⟨c1, c2⟩ := l1 j (by omega)
          refine Or.inl ⟨?_, fun q => by have := c2 q; omega, fun q => ?_⟩
          · unfold sLed
            rw [hU j (by omega)]
            exact c1
          · rw [va_up_self] at q
            exact absurd (Option.some.inj q) (by omega)
    · intro j q
      rw [va_up_self] at q
      have := Option.some.inj q
      omega
