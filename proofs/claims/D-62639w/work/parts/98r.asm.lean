def opN (t : Nat → Nat → Int32) (k : Nat) : Nat := (t k 0).toNatClampNeg
def goN (t : Nat → Nat → Int32) (k : Nat) : Nat := (t k 4).toNatClampNeg
theorem st_n {t : Nat → Nat → Int32} {k : Nat} (h : stOk (t k)) : t k 0 = nI (opN t k) ∧ opN t k < 7 ∧ (opN t k = 4 → goN t k < 12 ∧ t k 4 = nI (goN t k)) := by
  obtain ⟨o, a, b, c, h1, h2, h3, h4, h5, h6, h7, h8, h9⟩ := h
  have e : opN t k = o := by
    unfold opN
    rw [h5, nI_clamp (by omega)]
  rw [e]
  refine ⟨h5, h1, fun q => ?_⟩
  obtain ⟨g, g1, g2⟩ := h9 q
  have e2 : goN t k = g := by
    unfold goN
    rw [g2, nI_clamp (by omega)]
  rw [e2]
  exact ⟨g1, g2⟩
theorem goT_G {n Lz i k : Nat} {o : Nat → Nat} {t tf : Nat → Nat → Int32} (h : Lst n Lz o t tf) (ho : ∀ k, k < n → o k < 7) (hn : n ≤ 12) (hk : k < n) (h4 : o k = 4) (hi : i = off o k + 2) : goT tf i = tf 33 k := by
  unfold goT
  rw [hi, ent38 (h.1 k hk) (ho k hk) (show 2 < szo (o k) by rw [h4]; decide), nI_clamp (by omega)]
/-- the component's run, beside the model's placing -/
theorem asm_run {t : Nat → Nat → Int32} {n Lz : Nat} {v tv : Nat → Int32} {f u tf : Nat → Nat → Int32} {la : Nat → Option Nat} (hn : n ≤ 12) (hn0 : 0 < n) (h21 : v 21 = nI n) (h20 : ∃ m, m ≤ 37 ∧ v 20 = nI m) (hst : ∀ k, k < n → stOk (t k)) (hL : tv 34 = nI Lz) (hL2 : Lz ≤ 37) (h : Lst n Lz (opN t) t tf) (h33 : ∀ k, k < n → tf 33 k = t k 4) :
    aFail v f tf tv (F_As_assemble t v f u la) (F_Mo_place tv tf) ∨
    ∃ v1 f1 u1 la1 tf1 m, F_Mo_place tv tf = some (1, tv, tf1) ∧ aKp v f tf v1 f1 tf1 ∧ m ≤ 37 ∧ Lz ≤ m ∧ v1 20 = nI m ∧
      (((∃ k, k < n ∧ opN t k = 4 ∧ n ≤ goN t k) ∧ F_As_assemble t v f u la = some (-1, v1, f1, u1, la1)) ∨
       ((∀ k, k < n → opN t k = 4 → goN t k < n) ∧ F_As_assemble t v f u la = some (nI Lz, v1, f1, u1, la1) ∧ v1 2 = nI Lz ∧ rVr f1 tf1 ∧ (∀ k, k < n → f1 5 k = tf1 39 (off (opN t) k)) ∧ (∀ i, i < Lz → fin0 (kdT tf1) (nxT tf1) u1 tf1 i) ∧ (∀ i, i < Lz → kdT tf1 i = 2 → u1 i 2 = ldx (bse tf1 i) (tf1 39 i) (tf1 39 (off (opN t) (goT tf1 i).toNatClampNeg))) ∧ (∀ i, i < Lz → kdT tf1 i = 0 → nxT tf1 i < Lz) ∧ ∀ j, j < Lz → ∃ w, w < 32768 ∧ bse tf1 j = nI w)) := by
  have ho : ∀ k, k < n → opN t k < 7 := fun k hk => (st_n (hst k hk)).2.1
  have e21 : ¬ (va_up (va_up v 2 (0 : Int32)) 8 (0 : Int32)) 21 = 0 := by
    rw [va_up_ne _ _ (by decide), va_up_ne _ _ (by decide), h21]
    exact nI_ne0 (by omega) (by omega)
  have eA : F_As_assemble t v f u la = F_As_assemble_36 t 100 (nI 0) (va_up (va_up (va_up v 2 0) 8 0) 9 1) f u (va_up la 0 none) := by
    unfold F_As_assemble F_AL_isEmpty_s
    rw [if_neg e21, Option.bind_some, if_pos rfl]
    unfold F_As_assemble_26
    rw [if_pos (Or.inr rfl), nI_0]
  obtain ⟨fa, a1, a2, a3⟩ := fl_a36 (t := t) (v := va_up (va_up (va_up v 2 0) 8 0) 9 1) (u := u) (la := va_up la 0 none) 96 0 100 f rfl (by omega) (fun j hj => absurd hj (Nat.not_lt_zero _))
  obtain ⟨fb, b1, b2, b3⟩ := fl_a57 (t := t) (v := va_up (va_up (va_up v 2 0) 8 0) 9 1) (u := u) (la := va_up la 0 none) 16 0 100 fa rfl (by omega) (fun j hj => absurd hj (Nat.not_lt_zero _))
  obtain ⟨ta, c1, c2, c3⟩ := fl_p2 (tv := tv) 64 0 100 tf rfl (by omega) (fun j hj => absurd hj (Nat.not_lt_zero _))
  obtain ⟨tb, d1, d2, d3⟩ := fl_p23 (tv := tv) 32 0 100 ta rfl (by omega) (fun j hj => absurd hj (Nat.not_lt_zero _))
  obtain ⟨tc, e1, e2, e3⟩ := fl_p44 (tv := tv) 16 0 100 tb rfl (by omega) (fun j hj => absurd hj (Nat.not_lt_zero _))
  have eM : F_Mo_place tv tf = F_Mo_place_67 100 (nI 0) (nI 0) tv tc := by
    unfold F_Mo_place
    rw [nI_0] at c1 d1 e1 ⊢
    rw [c1, d1, e1]
  have eC : F_As_assemble t v f u la = F_As_assemble_78 t 13 (nI 0) (va_up (va_up (va_up v 2 0) 8 0) 9 1) fb u (va_up la 0 none) := by
    rw [eA]
    rw [nI_0] at a1 b1 ⊢
    rw [a1, b1]
  have hK0 : aKp v f tf (va_up (va_up (va_up v 2 0) 8 0) 9 1) fb tc := by
    refine ⟨fun k hk => ?_, fun k k1 k2 _ => ?_, fun k k1 k2 k3 _ => ?_⟩
    · rw [e3 k (by omega), d3 k (by omega), c3 k (by omega)]
    · rw [b3 k k2, a3 k k1]
    · rw [va_up_ne _ _ k3, va_up_ne _ _ k2, va_up_ne _ _ k1]
  obtain ⟨m0, m1, m2⟩ := h20
  have hJ : J0 (off (opN t) 0) 0 (va_up (va_up (va_up v 2 0) 8 0) 9 1) fb u tc := by
    have t42 : ∀ j, j < 32 → tc 42 j = 0 := fun j hj => by rw [e3 42 (by decide)]; exact d2 j hj
    have f3 : ∀ j, j < 96 → fb 3 j = 0 := fun j hj => by rw [b3 3 (by decide)]; exact a2 j hj
    refine ⟨rfl, rfl, rfl, by decide, ⟨m0, m1, Nat.zero_le _, m2⟩, fun j hj => ?_, ⟨fun j hj => ?_, fun a ha => ?_, fun j hj q => ?_⟩, fun j hj => absurd hj (Nat.not_lt_zero _)⟩
    · rw [f3 j (by omega), e3 41 (by decide), d3 41 (by decide)]
      exact c2 j hj
    · rw [t42 j hj, f3 (64 + j) (by omega)]
      exact ⟨rfl, Or.inl rfl⟩
    · rw [e2 a ha, b2 a ha]
      exact ⟨rfl, Or.inl rfl⟩
    · rw [t42 j hj] at q
      exact absurd q (by decide)
  have hS : S0 (kdT tf) (nxT tf) (goT tf) (off (opN t) 0) u (va_up la 0 none) tc :=
    ⟨fun j hj => absurd hj (Nat.not_lt_zero _), fun j q => by rw [va_up_self] at q; cases q⟩
  obtain ⟨k1, k2⟩ := kd_mv (kd := kdT tf) (nx := nxT tf) (fun _ => rfl) (fun _ => rfl) hK0.1
  have hgo : ∀ k, k < n → opN t k = 4 → goT tf (off (opN t) k + 2) = t k 4 := fun k hk h4 => (goT_G h ho hn hk h4 rfl).trans (h33 k hk)
  have hoff : off (opN t) n ≤ Lz := by
    have := h.2.1
    omega
  rw [eC, eM, show (100 : Nat) = (100 - 3 * n) + 3 * n by omega]
  have V21 : (va_up (va_up (va_up v 2 0) 8 0) 9 1) 21 = nI n := h21
  rcases asm_lp (kd := kdT tf) (nx := nxT tf) (go := goT tf) (tv := tv) hn hL hL2 hoff (fun k hk => ⟨hst k hk, (st_n (hst k hk)).1, ho k hk⟩) hgo n 0 13 (100 - 3 * n) 0 _ fb u _ tc (by omega) (by omega) hJ hS V21 k1 k2 (fun k hk => (h.1 k hk).mv hK0.1) ⟨fun k' hk' => absurd hk' (Nat.not_lt_zero _), fun q => absurd q (Nat.lt_irrefl _)⟩ with hF | ⟨fr1, v1, f1, u1, la1, tf1, N1, p1, p2, p3, p4, p5, p6, p7⟩
  · exact Or.inl (hF.tr hK0)
  · have p3 : F_Mo_place_67 (100 - 3 * n + 3 * n) (nI 0) (nI 0) tv tc = F_Mo_place_67 N1 (nI fr1) (nI (off (opN t) n)) tv tf1 := p3
    rw [p1, p3]
    obtain ⟨N2, rfl⟩ : ∃ q, N1 = q + 2 := ⟨N1 - 2, by omega⟩
    have hK1 := hK0.tr p7
    obtain ⟨k3, k4⟩ := kd_mv (kd := kdT tf) (nx := nxT tf) (fun _ => rfl) (fun _ => rfl) hK1.1
    rcases asm_end (t := t) (tv := tv) N2 hn0 hL hL2 h.2.1 p4 p5 k3 p6 (fun h6 => by
      rw [hK1.1 35 (by decide), hK1.1 36 (by decide), hK1.1 37 (by decide)]
      exact ⟨(h.2.2 h6).1, (h.2.2 h6).2.1, (h.2.2 h6).2.2.1⟩) with hF | ⟨fr2, v2, f2, u2, la2, tf2, q1, q2, q3, q4, q5, q6, q7⟩
    · exact Or.inl (hF.tr hK1)
    · rw [q1, q2]
      have hK2 := hK1.tr q7
      obtain ⟨j1, j2, j3, j4, ⟨m, j5, j6, j7⟩, j8, j9, j10⟩ := q3
      have ekd : kdT tf2 = kdT tf := funext fun j => by unfold kdT; rw [hK2.1 36 (by decide)]
      have enx : nxT tf2 = nxT tf := funext fun j => by unfold nxT; rw [hK2.1 36 (by decide)]
      have ego : goT tf2 = goT tf := funext fun j => by unfold goT; rw [hK2.1 33 (by decide), hK2.1 38 (by decide)]
      have hG : ∀ j, j < Lz → kdT tf j = 2 → ∃ k, k < n ∧ opN t k = 4 ∧ j = off (opN t) k + 2 ∧ goT tf j = nI (goN t k) ∧ goN t k < 12 := fun j hj hk => by
        obtain ⟨k, g1, g2, g3, -⟩ := kd2 h ho hj hk
        obtain ⟨s1, s2⟩ := (st_n (hst k g1)).2.2 g2
        exact ⟨k, g1, g2, g3, by rw [g3]; exact (hgo k g1 g2).trans s2, s1⟩
      have hled : ∀ j, j < Lz → sLed (kdT tf) (nxT tf) (goT tf) u2 tf2 j ∧ (kdT tf j = 0 → nxT tf j < Lz) := fun j hj => by
        rcases q4.1 j hj with ⟨x1, x2, -⟩ | x1
        · exact ⟨x1, x2⟩
        · have := x1.2.2.1
          rw [q5] at this
          cases this
      have hof : ∀ k, k < n → off (opN t) k < Lz := fun k hk => by
        have := off_lt (o := opN t) hk
        omega
      unfold F_As_assemble_185
      have v21' : v2 21 = nI n := (hK2.2.2 21 (by decide) (by decide) (by decide) (by decide)).trans h21
      rcases lead_lp (t := t) (kd := kdT tf) (nx := nxT tf) (g := fun j => (goT tf j).toNatClampNeg) (o := opN t) (v := v2) (f := f2) (tf := tf2) (la := la2) hn v21' j2 j7 j5 j6 j1 q6 hof (fun j hj hk => by
          obtain ⟨k, g1, g2, g3, g4, g5⟩ := hG j hj hk
          show (goT tf j).toNatClampNeg < 12
          rw [g4, nI_clamp (by omega)]
          exact g5) (fun j hj => by
          obtain ⟨s, w, x1, x2, x3, x4, -⟩ := j10 j hj
          exact ⟨w, x2, x4⟩) (fun j hj => by
          obtain ⟨s, w, x1, x2, x3, x4, -⟩ := j10 j hj
          exact ⟨s, x1, x3⟩) Lz 0 100 u2 (by omega) (by omega) (fun i hi => by
          obtain ⟨s, w, x1, x2, x3, x4, x5, x6⟩ := j10 i hi
          obtain ⟨⟨y1, y2, y3, y4⟩, -⟩ := hled i hi
          exact ⟨s, x1, x3, x5, x6, y1, y2⟩) (fun i hi => absurd hi (Nat.not_lt_zero _)) (fun i _ hi => by
          obtain ⟨⟨y1, y2, y3, y4⟩, -⟩ := hled i hi
          refine ⟨fun hk => ?_, y4⟩
          obtain ⟨k, g1, g2, g3, g4, g5⟩ := hG i hi hk
          refine ⟨(y3 hk).1, (y3 hk).2.trans ?_⟩
          show goT tf i = nI (goT tf i).toNatClampNeg
          rw [g4, nI_clamp (by omega)]) with ⟨⟨i, z1, z2, z3, z4⟩, u3, z5⟩ | ⟨z1, u3, z2, z3, z4⟩
      · have z5 : F_As_assemble_187 t 100 0 v2 f2 u2 la2 = some (-1, va_up v2 9 0, f2, u3, la2) := z5
        rw [z5]
        obtain ⟨k, g1, g2, g3, g4, g5⟩ := hG i z2 z3
        have z4 : n ≤ (goT tf i).toNatClampNeg := z4
        rw [g4, nI_clamp (by omega)] at z4
        exact Or.inr ⟨va_up v2 9 0, f2, u3, la2, tf2, m, rfl, ⟨hK2.1, hK2.2.1, fun k k1 k2 k3 k4 => (va_up_ne _ _ k3).trans (hK2.2.2 k k1 k2 k3 k4)⟩, j5, j6, j7, Or.inl ⟨⟨k, g1, g2, z4⟩, rfl⟩⟩
      · have z2 : F_As_assemble_187 t 100 0 v2 f2 u2 la2 = some (nI Lz, v2, f2, u3, la2) := z2
        rw [z2]
        refine Or.inr ⟨v2, f2, u3, la2, tf2, m, rfl, hK2, j5, j6, j7, Or.inr ⟨fun k hk h4 => ?_, rfl, j2, j9, q6, ?_, ?_, ?_, ?_⟩⟩
        · have hw := off_sz (o := opN t) hk
          rw [h4] at hw
          have hw : off (opN t) k + 3 ≤ off (opN t) n := hw
          have hk2 : kdT tf (off (opN t) k + 2) = 2 := by
            have e := (h.1 k hk).2.2.2.2.1 h4
            unfold kdT
            rw [show tf 36 (off (opN t) k + 2) = 0 from e.2.2.2.1, if_neg (by decide), show off (opN t) k + 2 - 1 = off (opN t) k + 1 from rfl, if_pos ⟨rfl, e.2.1.2.1⟩]
          have := z1 (off (opN t) k + 2) (Nat.zero_le _) (by omega) hk2
          obtain ⟨s1, s2⟩ := (st_n (hst k hk)).2.2 h4
          have this : (goT tf (off (opN t) k + 2)).toNatClampNeg < n := this
          rw [hgo k hk h4, s2, nI_clamp (by omega)] at this
          exact this
        · rw [ekd, enx]
          exact z3
        · rw [ekd, ego]
          exact z4
        · rw [ekd, enx]
          exact fun i hi => (hled i hi).2
        · intro j hj
          obtain ⟨s, w, x1, x2, x3, x4, -⟩ := j10 j hj
          exact ⟨w, x2, x4⟩
