theorem rA.keep {t : Nat → Nat → Int32} {v v1 : Nat → Int32} {f f1 : Nat → Nat → Int32} {tv tv1 : Nat → Int32} {tf tf1 : Nat → Nat → Int32} (h : rA t v f tv tf) (h1 : v1 21 = v 21) (h2 : ∃ m, m ≤ 37 ∧ v1 20 = nI m) (h3 : f1 6 = f 6) (h4 : f1 7 = f 7) (h5 : tv1 28 = tv 28) (h6 : tv1 44 = tv 44) (h7 : ∀ k, (28 < k ∧ k < 34) ∨ 43 < k → tf1 k = tf k) : rA t v1 f1 tv1 tf1 := by
  obtain ⟨⟨n, a1, a2, a3, a4⟩, -, b1, k, b2, b3, b4, b5⟩ := h
  refine ⟨⟨n, a1, h1.trans a2, h5.trans a3, fun i hi => ?_⟩, h2, ?_, k, b2, h6.trans b3, ?_, ?_⟩
  · rw [h7 29 (by decide), h7 30 (by decide), h7 31 (by decide), h7 32 (by decide), h7 33 (by decide)]
    exact a4 i hi
  · rw [h7 46 (by decide), h3]
    exact b1
  · rw [h7 45 (by decide), h4]
    exact b4
  · rw [h4]
    exact b5
/-- nothing to assemble -/
theorem asm_zero {t : Nat → Nat → Int32} {v : Nat → Int32} {f u : Nat → Nat → Int32} {la : Nat → Option Nat} (h21 : v 21 = 0) : ∃ v1 f1 u1 la1, F_As_assemble t v f u la = some (-1, v1, f1, u1, la1) ∧ v1 21 = v 21 ∧ v1 20 = v 20 ∧ f1 6 = f 6 ∧ f1 7 = f 7 := by
  have e21 : (va_up (va_up v 2 (0 : Int32)) 8 (0 : Int32)) 21 = 0 := by
    rw [va_up_ne _ _ (by decide), va_up_ne _ _ (by decide), h21]
  have eA : F_As_assemble t v f u la = F_As_assemble_36 t 100 (nI 0) (va_up (va_up (va_up v 2 0) 8 0) 9 0) f u (va_up la 0 none) := by
    unfold F_As_assemble F_AL_isEmpty_s
    rw [if_pos e21, Option.bind_some, if_neg i10]
    unfold F_As_assemble_26
    rw [if_pos (Or.inl rfl), nI_0]
  obtain ⟨fa, a1, a2, a3⟩ := fl_a36 (t := t) (v := va_up (va_up (va_up v 2 0) 8 0) 9 0) (u := u) (la := va_up la 0 none) 96 0 100 f rfl (by omega) (fun j hj => absurd hj (Nat.not_lt_zero _))
  obtain ⟨fb, b1, b2, b3⟩ := fl_a57 (t := t) (v := va_up (va_up (va_up v 2 0) 8 0) 9 0) (u := u) (la := va_up la 0 none) 16 0 100 fa rfl (by omega) (fun j hj => absurd hj (Nat.not_lt_zero _))
  refine ⟨va_up (va_up (va_up v 2 0) 8 0) 9 0, fb, u, va_up la 0 none, ?_, ?_, ?_, ?_, ?_⟩
  · rw [eA]
    rw [nI_0] at a1 b1 ⊢
    rw [a1, b1]
    exact asm_not 12 0 rfl
  · rw [va_up_ne _ _ (by decide), va_up_ne _ _ (by decide), va_up_ne _ _ (by decide)]
  · rw [va_up_ne _ _ (by decide), va_up_ne _ _ (by decide), va_up_ne _ _ (by decide)]
  · rw [b3 6 (by decide), a3 6 (by decide)]
  · rw [b3 7 (by decide), a3 7 (by decide)]
theorem assemble_ok {N : Nat} {mv : Nat → Int32} {mf : Nat → Nat → Int32} {mi : Nat → Nat} {t : Nat → Nat → Int32} {v : Nat → Int32} {f u : Nat → Nat → Int32} {la : Nat → Option Nat} {tv : Nat → Int32} {tf : Nat → Nat → Int32} (hM : rM N mv mf mi tv tf) (hA : rA t v f tv tf) :
    ∃ (r : Int32) (mf1 : Nat → Nat → Int32) (v1 : Nat → Int32) (f1 : Nat → Nat → Int32) (u1 : Nat → Nat → Int32) (la1 : Nat → Option Nat) (tv1 : Nat → Int32) (tf1 : Nat → Nat → Int32), F_DM_assemble t mv mf v f u la = some (r, mf1, v1, f1, u1, la1) ∧ F_Mo_assemble tv tf = some (r, tv1, tf1) ∧ rM N mv mf1 mi tv1 tf1 ∧ rA t v1 f1 tv1 tf1 := by
  have hA' := hA
  obtain ⟨⟨n, hn, h21, h28, hs⟩, h20, hk⟩ := hA
  have h3 : tv 3 = mv 9 := hM.2.2.2.1
  unfold F_DM_assemble F_Mo_assemble F_Mo_assemble_18 F_Mo_assemble_19
  have c0 := can_0 (f := tf) hn h28 n 0 100 (by omega) (by omega)
  have c0 : F_Mo_assemble_22 100 0 0 tv tf = some (-1, tv, tf) := c0
  rw [c0, h3]
  by_cases hg : mv 9 = 0
  · rw [if_pos hg, if_pos hg]
    by_cases hn0 : n = 0
    · rw [if_pos (show tv 28 ≤ 0 by rw [h28, hn0]; decide)]
      have h21' : v 21 = 0 := by rw [h21, hn0]; rfl
      obtain ⟨v1, f1, u1, la1, a1, a2, a3, a4, a5⟩ := asm_zero (t := t) (f := f) (u := u) (la := la) h21'
      rw [a1, Option.bind_some]
      refine ⟨-1, mf, v1, f1, u1, la1, tv, tf, ?_, rfl, hM, hA'.keep a2 (by rw [a3]; exact h20) a4 a5 rfl rfl (fun _ _ => rfl)⟩
      exact if_pos (by decide)
    · rw [if_neg (show ¬ tv 28 ≤ 0 by rw [h28]; exact nI_nle (by omega) (by omega))]
      have hst : ∀ k, k < n → stOk (t k) := fun k hk => (hs k hk).2
      have ho : ∀ k, k < n → tf 29 k = nI (opN t k) ∧ opN t k < 7 := fun k hk => ⟨(hs k hk).1.1.trans (st_n (hst k hk)).1, (st_n (hst k hk)).2.1⟩
      have hg33 : ∀ k, k < n → opN t k = 4 → goN t k < 12 ∧ tf 33 k = nI (goN t k) := fun k hk h4 => ⟨((st_n (hst k hk)).2.2 h4).1, (hs k hk).1.2.2.2.2.trans ((st_n (hst k hk)).2.2 h4).2⟩
      obtain ⟨tvL, tfL, Lz, l1, l2, l3, l4, l5, l6⟩ := listAll_ok (t := t) (tf := tf) (tv := tv) (o := opN t) hn (by omega) (fun k hk => ⟨(ho k hk).1, (ho k hk).2, (hs k hk).1.2.1, (hs k hk).1.2.2.1, (hs k hk).1.2.2.2.1⟩) h28
      have hcan := can_1 (g := goN t) (f := tf) hn h28 ho hg33 n 0 100 (by omega) (by omega)
      rw [nI_0] at hcan
      have hrun := asm_run (t := t) (tv := tvL) (u := u) (la := la) (v := v) (f := f) hn (by omega) h21 h20 hst l2 l3 l4 (fun k hk => by rw [l6 33 (by decide)]; exact (hs k hk).1.2.2.2.2)
      have hrest : ∀ {r : Int32} {tf1 : Nat → Nat → Int32}, F_Mo_place tvL tfL = some (r, tvL, tf1) → aRest tv tf = if r = 0 then some (-1, tvL, tf1) else F_Mo_assemble_99 100 0 tvL tf1 := fun {r tf1} e => by
        unfold aRest
        rw [l1, Option.bind_some]
        dsimp only
        rw [if_neg (show ¬ (64 : Int32) < tvL 34 by rw [l2]; exact nI_nlt (a := 64) (by omega) (by decide)), e, Option.bind_some]
        rfl
      have keepL : ∀ {v1 : Nat → Int32} {f1 tf1 : Nat → Nat → Int32}, aKp v f tfL v1 f1 tf1 → (∃ m, m ≤ 37 ∧ v1 20 = nI m) → rM N mv mf mi tvL tf1 ∧ rA t v1 f1 tvL tf1 := fun {v1 f1 tf1} hK hm => by
        refine ⟨hM.keep (fun k hk => l5 k (by omega)) (fun k hk _ => (hK.1 k (by omega)).trans (l6 k (by omega))) (fun _ _ => rfl) ?_, hA'.keep (hK.2.2 21 (by decide) (by decide) (by decide) (by decide)) hm (hK.2.1 6 (by decide) (by decide) (by decide)) (hK.2.1 7 (by decide) (by decide) (by decide)) (l5 28 (by decide)) (l5 44 (by decide)) (fun k hk => (hK.1 k (by omega)).trans (l6 k (by omega)))⟩
        rw [hK.1 0 (by decide), l6 0 (by decide)]
        exact hM.2.2.2.2.2.1
      have keepT : ∀ {v1 : Nat → Int32} {f1 tf1 : Nat → Nat → Int32}, aKp v f tfL v1 f1 tf1 → (∃ m, m ≤ 37 ∧ v1 20 = nI m) → rA t v1 f1 tv tf := fun {v1 f1 tf1} hK hm =>
        hA'.keep (hK.2.2 21 (by decide) (by decide) (by decide) (by decide)) hm (hK.2.1 6 (by decide) (by decide) (by decide)) (hK.2.1 7 (by decide) (by decide) (by decide)) rfl rfl (fun _ _ => rfl)
      rcases hrun with ⟨v1, f1, u1, la1, tf1, a1, a2, a3, a4⟩ | ⟨v1, f1, u1, la1, tf1, m, a1, a2, a3, a4, a5, a6⟩
      · rw [a1, Option.bind_some]
        have hr := hrest a4
        rw [if_pos rfl] at hr
        rcases hcan with ⟨-, e⟩ | ⟨-, e⟩
        · rw [e, hr]
          exact ⟨-1, mf, v1, f1, u1, la1, tvL, tf1, if_pos (by decide), rfl, keepL a3 a2⟩
        · rw [e]
          exact ⟨-1, mf, v1, f1, u1, la1, tv, tf, if_pos (by decide), rfl, hM, keepT a3 a2⟩
      · have hr := hrest a1
        rw [if_neg i10] at hr
        rcases a6 with ⟨⟨k, b1, b2, b3⟩, b4⟩ | ⟨b1, b2, b3, b4, b5, b6, b7, b8, b9⟩
        · rcases hcan with ⟨e0, -⟩ | ⟨-, e⟩
          · have := e0 k (Nat.zero_le _) b1 b2
            omega
          · rw [e, b4, Option.bind_some]
            exact ⟨-1, mf, v1, f1, u1, la1, tv, tf, if_pos (by decide), rfl, hM, keepT a2 ⟨m, a3, a5⟩⟩
        · rcases hcan with ⟨-, e⟩ | ⟨⟨k, e1, e2, e3, e4⟩, -⟩
          · rw [e, hr, b2, Option.bind_some]
            dsimp only
            rw [if_neg (show ¬ nI Lz < 0 from nI_pos (by omega))]
            have hLst : Lst n Lz (opN t) t tf1 := by
              refine ⟨fun k hk => (l4.1 k hk).mv a2.1, l4.2.1, fun q => ?_⟩
              rw [a2.1 35 (by decide), a2.1 36 (by decide), a2.1 37 (by decide), a2.1 38 (by decide)]
              exact l4.2.2 q
            have ho7 : ∀ k, k < n → opN t k < 7 := fun k hk => (ho k hk).2
            have h33 : ∀ k, k < n → tf1 33 k = t k 4 := fun k hk => by
              rw [a2.1 33 (by decide), l6 33 (by decide)]
              exact (hs k hk).1.2.2.2.2
            have hgG : ∀ k, k < n → opN t k = 4 → (goT tf1 (off (opN t) k + 2)).toNatClampNeg = goN t k ∧ tf1 33 k = nI (goN t k) := fun k hk h4 => by
              have e5 := ((st_n (hst k hk)).2.2 h4)
              have e6 := e5.1
              rw [goT_G hLst ho7 hn hk h4 rfl, h33 k hk]
              exact ⟨rfl, e5.2⟩
            -- the stores
            obtain ⟨X0, x1, x2, x3⟩ := fl_m99 (tv := tvL) 64 0 100 tf1 rfl (by omega) (fun j hj => absurd hj (Nat.not_lt_zero _))
            obtain ⟨D0, y1, y2, y3⟩ := fl_k2 (t := t) (v := v1) (u := u1) (la := la1) (fa := f1) 64 0 100 (fun _ => mf 0) rfl (by omega) (fun j hj => absurd hj (Nat.not_lt_zero _))
            have hX0 : X0 = va_up tf1 0 (X0 0) := by
              funext k
              by_cases hk0 : k = 0
              · rw [hk0, va_up_self]
              · rw [va_up_ne _ _ hk0, x3 k hk0]
            have hO0 : rO (D0 0) (X0 0) := fun j hj => by
              rw [x2 j hj, y2 j hj]
              exact ⟨rfl, 1015824, by decide, rfl⟩
            obtain ⟨D1, X1, w1, w2, w3⟩ := wr_lp (t := t) (g := fun i => (goT tf1 i).toNatClampNeg) (v := v1) (tv := tvL) (f := f1) (u := u1) (la := la1) hLst ho7 hn l2 l3 b3 a5 a3 a4 b6 b7 b8 (fun k hk h4 => by
                obtain ⟨g1, g2⟩ := hgG k hk h4
                show (goT tf1 (off (opN t) k + 2)).toNatClampNeg < n ∧ tf1 33 k = nI (goT tf1 (off (opN t) k + 2)).toNatClampNeg
                rw [g1]
                exact ⟨b1 k hk h4, g2⟩) b9 (fun i hi h2 => by
                obtain ⟨k, g1, g2, g3, -⟩ := kd2 hLst ho7 hi h2
                show off (opN t) (goT tf1 i).toNatClampNeg < Lz
                rw [g3, (hgG k g1 g2).1]
                have := off_lt (o := opN t) (b1 k g1 g2)
                have := l4.2.1
                omega) Lz 0 100 100 D0 (X0 0) (by omega) (by omega) (by omega) hO0
            obtain ⟨f2, p1, p2, p3⟩ := cp_85 (t := t) (v := v1) (u := u1) (la := la1) (od := D1) 16 0 100 f1 rfl (by omega) (fun j hj => absurd hj (Nat.not_lt_zero _))
            have v21 : v1 21 = nI n := (a2.2.2 21 (by decide) (by decide) (by decide) (by decide)).trans h21
            obtain ⟨f3, q1, q2, q3⟩ := cp_111 (t := t) (v := v1) (u := u1) (la := la1) (od := D1) hn v21 12 0 100 f2 rfl (by omega) (fun j hj => absurd hj (Nat.not_lt_zero _))
            have t28 : (va_up tvL 44 (tvL 28)) 28 = nI n := by
              rw [va_up_ne _ _ (by decide), l5 28 (by decide)]
              exact h28
            obtain ⟨T2, r1, r2, r3⟩ := cp_150 (t := t) (Lz := Lz) (v := va_up tvL 44 (tvL 28)) ho7 hn t28 n 0 100 (va_up tf1 0 X1) (by omega) (by omega) hLst (fun j hj => absurd hj (Nat.not_lt_zero _))
            obtain ⟨T3, s1, s2, s3⟩ := cp_182 (v := va_up tvL 44 (tvL 28)) 16 0 100 T2 rfl (by omega) (fun j hj => absurd hj (Nat.not_lt_zero _))
            rw [nI_0] at x1 y1 w1 w2 p1 q1 r1 s1
            rw [hX0] at x1
            unfold F_As_keep
            rw [y1, w1, p1, q1, x1, w2, r1, s1, Option.bind_some]
            refine ⟨nI Lz, _, v1, f3, u1, la1, va_up tvL 44 (tvL 28), T3, rfl, ?_, ?_, ?_⟩
            · rw [va_up_ne _ _ (by decide), l2]
            · refine hM.keep (fun k hk => (va_up_ne _ _ (by omega)).trans (l5 k (by omega))) (fun k hk hk0 => ?_) (fun k hk0 => va_up_ne _ _ hk0) ?_
              · rw [s3 k (by omega), r3 k (by omega), va_up_ne _ _ hk0, a2.1 k (by omega), l6 k (by omega)]
              · rw [va_up_self, s3 0 (by decide), r3 0 (by decide), va_up_self]
                exact w3
            · refine ⟨⟨n, hn, v21, t28, fun i hi => ?_⟩, ⟨m, a3, a5⟩, fun j hj => ?_, n, hn, ?_, fun j hj => ?_, fun j hj1 hj2 => ?_⟩
              · have : ∀ k, 28 < k → k < 34 → T3 k = tf k := fun k k1 k2 => by
                  rw [s3 k (by omega), r3 k (by omega), va_up_ne _ _ (by omega), a2.1 k (by omega), l6 k (by omega)]
                rw [this 29 (by decide) (by decide), this 30 (by decide) (by decide), this 31 (by decide) (by decide), this 32 (by decide) (by decide), this 33 (by decide) (by decide)]
                exact hs i hi
              · rw [s2 j hj, r3 43 (by decide), va_up_ne _ _ (by decide), q3 6 (by decide), p2 j hj]
                exact (b4.2.1 j hj).1
              · rw [va_up_self, l5 28 (by decide)]
                exact h28
              · rw [s3 45 (by decide), r2 j hj, va_up_ne _ _ (by decide), q2 j (by omega), if_pos hj, p3 5 (by decide), b5 j hj]
              · rw [q2 j hj2, if_neg (by omega)]
          · have := b1 k e2 e3
            omega
  · rw [if_neg hg, if_neg hg]
    refine ⟨-1, mf, v, f, u, la, tv, tf, rfl, ?_, hM, hA'⟩
    split
    · rfl
    · rfl
