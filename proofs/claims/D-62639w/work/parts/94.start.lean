theorem i32 : (32 : Int32) = nI 32 := rfl
theorem i2 : (2 : Int32) = nI 2 := rfl
theorem up_up {α : Type} (f : Nat → α) (k : Nat) (a b : α) : va_up (va_up f k a) k b = va_up f k b := by
  funext j; unfold va_up; split <;> rfl
theorem up_id {α : Type} (f : Nat → α) (k : Nat) (a : α) (h : f k = a) : va_up f k a = f := by
  funext j; unfold va_up; split
  · rename_i q; rw [q, h]
  · rfl
theorem start_lp (x1 : Int32) {j : Nat} (hj : j < 32) (f : Nat → Nat → Int32) : ∀ (d n M : Nat) (v : Nat → Int32), v 5 = nI M → M + d < 2 ^ 30 → (M + d) % 32 = j → (∀ e, e < d → (M + e) % 32 ≠ j) →
    F_Mo_start_73 x1 (nI j) (n + 1 + d) v f = some (1, va_up (va_up v 5 (nI (M + d))) 6 x1, f) := by
  intro d
  induction d with
  | zero =>
    intro n M v hv hM hd he
    show (if v 5 - v 5 / (32 : Int32) * (32 : Int32) = nI j then _ else _) = _
    rw [hv, i32, pk_rem (by omega) (by decide) (by decide), if_pos (by rw [← hd]; rfl)]
    rw [Nat.add_zero, up_id v 5 _ hv]
  | succ d ih =>
    intro n M v hv hM hd he
    show (if v 5 - v 5 / (32 : Int32) * (32 : Int32) = nI j then _ else F_Mo_start_73 x1 (nI j) (n + 1 + d) (va_up v 5 (v 5 + 1)) f) = _
    have h0 : M % 32 ≠ j := he 0 (by omega)
    rw [hv, i32, pk_rem (by omega) (by decide) (by decide), if_neg (fun q => h0 ((nI_eq (by omega) (by omega)).mp q)), nI_1,
      ih n (M + 1) _ (va_up_self _ _ _) (by omega) (by rw [← hd]; congr 1; omega) (fun e hE q => he (e + 1) (by omega) (by rw [← q]; congr 1; omega)), up_up, show M + 1 + d = M + (d + 1) by omega]
theorem n_shift (j r : Nat) (h : r ≤ 32) : nI j - nI r + nI 32 = nI (j + 32 - r) := by
  rw [← pk_sub (show r ≤ j + 32 by omega), ← nI_add, Int32.sub_eq_add_neg, Int32.sub_eq_add_neg, Int32.add_assoc, Int32.add_comm (-_), ← Int32.add_assoc]
theorem start_ok {N : Nat} {mv : Nat → Int32} {mf : Nat → Nat → Int32} {mi : Nat → Nat} {tv : Nat → Int32} {tf : Nat → Nat → Int32} (x1 x2 : Int32) (hN : N ≤ 1100000) (h : rM N mv mf mi tv tf) :
    ∃ (r : Int32) (mv1 : Nat → Int32) (tv1 : Nat → Int32), F_DM_start x1 x2 mv mf mi = some (r, mv1, mf, mi) ∧ F_Mo_start x1 x2 tv tf = some (r, tv1, tf) ∧ rM N mv1 mf mi tv1 tf ∧ fT tv tf tv1 tf := by
  rcases isOrder_sp x1 x2 with ⟨⟨⟨i, hi, rfl⟩, j, hj, rfl⟩, e⟩ | ⟨hn, e⟩
  · have h1 : F_DM_within (nI i) (2 : Int32) = some 1 := (within_sp (nI i) 2 (by decide)).elim (fun h => h.2) (fun h => absurd ⟨i, hi, rfl⟩ h.1)
    have h2 : F_DM_within (nI j) (32 : Int32) = some 1 := (within_sp (nI j) 32 (by decide)).elim (fun h => h.2) (fun h => absurd ⟨j, hj, rfl⟩ h.1)
    obtain ⟨a1, a2, a3, a4, a5, a6, a7, a8, ⟨u1, u2, u3⟩, ⟨c, n, e1, e2, e3, e4, e5, e6, e7, e8, e9, e10⟩, a11, a12⟩ := h
    have hd : (j + 32 - N % 32) % 32 < 32 := Nat.mod_lt _ (by decide)
    generalize hD : (j + 32 - N % 32) % 32 = d at hd
    have c1 : (mv 8) + (((nI j - ((mv 8) - (mv 8) / (32 : Int32) * (32 : Int32))) + (32 : Int32)) - ((nI j - ((mv 8) - (mv 8) / (32 : Int32) * (32 : Int32))) + (32 : Int32)) / (32 : Int32) * (32 : Int32)) = nI (N + d) := by
      rw [a1, i32, pk_rem (by omega) (by decide) (by decide), n_shift _ _ (by omega), pk_rem (by omega) (by decide) (by decide), nI_add, hD]
    refine ⟨1, va_up (va_up (va_up (va_up (va_up (va_up (va_up (va_up (va_up (va_up (va_up (va_up (va_up (va_up mv 9 (1 : Int32)) 10 (0 : Int32)) 11 (nI i)) 12 (nI (N + d))) 13 (0 : Int32)) 50 (-1)) 51 (-1)) 52 (-1)) 53 (-1)) 30 (0 : Int32)) 45 (0 : Int32)) 15 (-1 : Int32)) 16 (-1 : Int32)) 17 (0 : Int32), va_up (va_up (va_up (va_up (va_up (va_up (va_up (va_up (va_up (va_up (va_up (va_up (va_up (va_up tv 3 (1 : Int32)) 4 (0 : Int32)) 17 (0 : Int32)) 23 (-1 : Int32)) 9 (0 : Int32)) 7 (-1 : Int32)) 8 (-1 : Int32)) 11 (0 : Int32)) 12 (-1 : Int32)) 14 (0 : Int32)) 15 (-1 : Int32)) 5 (nI N)) 5 (nI (N + d))) 6 (nI i), ?_, ?_, ?_, ?_⟩
    · unfold F_DM_start F_Ma_start F_Wi_close_0 F_Wi_close_1
      rw [h1, Option.bind_some, if_neg i10, h2, Option.bind_some, if_neg i10, c1]
      rfl
    · unfold F_Mo_start
      rw [e, Option.bind_some, if_neg i10, a2]
      have := start_lp (nI i) hj tf d (99 - d) N (va_up (va_up (va_up (va_up (va_up (va_up (va_up (va_up (va_up (va_up (va_up (va_up tv 3 (1 : Int32)) 4 (0 : Int32)) 17 (0 : Int32)) 23 (-1 : Int32)) 9 (0 : Int32)) 7 (-1 : Int32)) 8 (-1 : Int32)) 11 (0 : Int32)) 12 (-1 : Int32)) 14 (0 : Int32)) 15 (-1 : Int32)) 5 (nI N)) rfl (by omega) (by omega) (by intro e he; omega)
      rw [show 99 - d + 1 + d = 100 by omega] at this
      exact this
    · refine ⟨a1, a2, rfl, rfl, Or.inr rfl, a6, a7, ⟨rfl, ⟨0, Nat.zero_le _, rfl⟩, fun _ => ⟨rfl, rfl⟩, fun q => absurd rfl q⟩, ⟨rfl, ⟨0, by omega, rfl⟩, u3⟩, ⟨c, n, e1, e2, e3, e4, e5, e6, e7, e8, e9, Or.inl ⟨rfl, rfl⟩⟩, a11, fun _ => ?_⟩
      exact ⟨N + d, 0, i, 0, 0, 0, 0, rfl, rfl, by omega, rfl, by omega, by omega, rfl, rfl, by omega, Or.inl ⟨rfl, rfl, rfl, rfl⟩, fun _ => rfl, fun q => absurd rfl q, by omega, by omega, Or.inl ⟨rfl, rfl, rfl, rfl⟩, by omega, by omega, Or.inl rfl⟩
    · refine ⟨fun k hk => ?_, fun k hk => rfl⟩
      repeat rw [va_up_ne _ _ (by omega)]
  · refine ⟨0, mv, tv, ?_, ?_, h, fT.rf⟩
    · unfold F_DM_start F_DM_start_17
      rcases within_sp x1 2 (by decide) with ⟨h1, e1⟩ | ⟨h1, e1⟩
      · have e1 : F_DM_within x1 (2 : Int32) = some 1 := e1
        have e2 : F_DM_within x2 (32 : Int32) = some 0 := (within_sp x2 32 (by decide)).elim (fun h => absurd ⟨h1, h.1⟩ hn) (fun h => h.2)
        rw [e1, e2, Option.bind_some, if_neg i10, Option.bind_some, if_pos rfl]
      · have e1 : F_DM_within x1 (2 : Int32) = some 0 := e1
        rw [e1, Option.bind_some, if_pos rfl]
    · unfold F_Mo_start
      rw [e, Option.bind_some, if_pos rfl]
/-- fields of an order -/
theorem o_fd (q k m : Nat) (hq : q < 2097152) (s : Int32) (hs : (s.toBitVec.smod 32).toNat = k) {mm : Int32} (hm : mm.toBitVec.toNat = 2 ^ m - 1) : (nI q >>> s) &&& mm = nI (q / 2 ^ k % 2 ^ m) := by
  have hle : q / 2 ^ k ≤ q := Nat.div_le_self _ _
  rw [pk_shrN (by omega) s k hs, pk_andN (by omega) m hm]
theorem o_wait (q : Nat) (hq : q < 2097152) : (nI q >>> ((10 : Int32) &&& 31)) &&& (31 : Int32) = nI (q / 1024 % 32) := o_fd q 10 5 hq _ (by decide) (by decide)
theorem o_time (q : Nat) (hq : q < 2097152) : (nI q >>> ((15 : Int32) &&& 31)) &&& (31 : Int32) = nI (q / 32768 % 32) := o_fd q 15 5 hq _ (by decide) (by decide)
theorem o_kind (q : Nat) (hq : q < 2097152) : (nI q >>> ((8 : Int32) &&& 31)) &&& (3 : Int32) = nI (q / 256 % 4) := o_fd q 8 2 hq _ (by decide) (by decide)
theorem o_dst (q : Nat) (hq : q < 2097152) : (nI q >>> ((4 : Int32) &&& 31)) &&& (15 : Int32) = nI (q / 16 % 16) := o_fd q 4 4 hq _ (by decide) (by decide)
theorem o_src (q : Nat) (hq : q < 2097152) : nI q &&& (15 : Int32) = nI (q % 16) := pk_andN (by omega) 4 (by decide)
theorem o_line (q : Nat) (hq : q < 2097152) : nI q >>> ((20 : Int32) &&& 31) = nI (q / 1048576) := pk_shrN (by omega) _ 20 (by decide)
/-- how long until the next order -/
def gp (q : Nat) : Nat := if q / 1024 % 32 ≤ q / 32768 % 32 then q / 32768 % 32 else q / 32768 % 32 + 32
theorem gp_le (q : Nat) : q / 1024 % 32 ≤ gp q ∧ gp q ≤ 63 := by unfold gp; split <;> omega
/-- the end of its window, from N on -/
def en (N q : Nat) : Nat := if q / 256 % 4 = 1 then N + 2 + q / 1024 % 32 + 1 else if q / 256 % 4 = 2 then N + 2 + gp q else N + 2 + q / 1024 % 32
theorem en_le (N q : Nat) : en N q ≤ N + 2 + gp q + 1 := by have := gp_le q; unfold en; split; omega; split <;> omega
theorem gapOf_eq (q : Nat) (hq : q < 2097152) : F_Mo_gapOf (nI q) = some (nI (gp q)) := by
  unfold F_Mo_gapOf F_Mo_waitOf gp
  rw [Option.bind_some, o_wait q hq, o_time q hq]
  by_cases h : q / 1024 % 32 ≤ q / 32768 % 32
  · rw [if_pos (nI_le h (by omega)), if_pos h]
  · rw [if_neg (nI_ge (by omega) (by omega)), if_neg h, i32, nI_add]
/-- the model's state behind read() -/
def rdT (N q : Nat) (v : Nat → Int32) : Nat → Int32 := va_up (va_up (va_up (va_up (va_up (va_up (va_up (va_up (va_up (va_up (va_up (va_up v 13 (v 10)) 14 (v 11)) 15 (v 12)) 7 (v 6)) 8 (nI (N % 32))) 9 ((v 9) + (1 : Int32))) 10 (nI q)) 11 (nI (N + 2 + q / 1024 % 32))) 12 (nI (en N q))) 5 (nI (N + 2 + gp q))) 6 (nI (q / 1048576))) 16 (0 : Int32)
theorem Mo_read_eq {N l q : Nat} {tv : Nat → Int32} {tf : Nat → Nat → Int32} (hN : N ≤ 1100000) (h2 : tv 2 = nI N) (h6 : tv 6 = nI l) (hl : l ≤ 1) (hq : q < 2097152) (ho : tf 0 (32 * l + N % 32) = nI q) : F_Mo_read tv tf = some (rdT N q tv, tf) := by
  have i1 : (32 : Int32) * nI l + (nI N - nI N / (32 : Int32) * (32 : Int32)) = nI (32 * l + N % 32) := by
    rw [i32, pk_rem (by omega) (by decide) (by decide), pk_mul, nI_add]
  have i3 : nI N - nI N / (32 : Int32) * (32 : Int32) = nI (N % 32) := by rw [i32, pk_rem (by omega) (by decide) (by decide)]
  have r143 : ∀ (s1 : Int32) (V : Nat → Int32), V 10 = nI q → V 2 = nI N → F_Mo_read_143 s1 V tf = some (va_up (va_up (va_up (va_up V 12 s1) 5 (nI (N + 2 + gp q))) 6 (nI (q / 1048576))) 16 (0 : Int32), tf) := by
    intro s1 V e1 e2
    unfold F_Mo_read_143
    rw [e1, e2, gapOf_eq q hq, Option.bind_some, i2, nI_add, nI_add, o_line q hq]
  unfold F_Mo_read F_Mo_waitOf
  rw [h2, h6, i1, i3, if_neg (nI_in (by omega) (by decide)), nI_clamp (by omega), ho, o_wait q hq, o_kind q hq, Option.bind_some, i2, nI_add, nI_add]
  by_cases h1 : q / 256 % 4 = 1
  · rw [if_pos (by rw [h1]; rfl), r143, nI_1]
    · unfold rdT en
      rw [if_pos h1, h6]
    · rfl
    · exact h2
  · rw [if_neg (show ¬ nI (q / 256 % 4) = (1 : Int32) from fun e => h1 ((nI_eq (b := 1) (by omega) (by decide)).mp e))]
    by_cases h3 : q / 256 % 4 = 2
    · rw [if_pos (by rw [h3]), gapOf_eq q hq, Option.bind_some, r143, nI_add]
      · unfold rdT en
        rw [if_neg h1, if_pos h3, h6]
      · rfl
      · exact h2
    · rw [if_neg (fun e => h3 ((nI_eq (b := 2) (by omega) (by decide)).mp e)), r143]
      · unfold rdT en
        rw [if_neg h1, if_neg h3, h6]
      · rfl
      · exact h2
/-- the component's state behind fetch() -/
def rdM (N q : Nat) (v : Nat → Int32) : Nat → Int32 := vsw (va_up (va_up (va_up (va_up (va_up (va_up (va_up (va_up v 15 (v 11)) 16 (nI (N % 32))) 17 ((v 17) + (1 : Int32))) 50 (nI (N + 2 + q / 1024 % 32))) 51 (nI (en N q))) 11 (nI (q / 1048576))) 12 (nI (N + 2 + gp q))) 13 (0 : Int32))
def rdW (q : Nat) (w : Nat → Nat) : Nat → Nat := wsw (va_up (va_up w 0 (q % 16)) 1 (q / 16 % 16))
theorem Ma_fetch_eq {N l q : Nat} {mv : Nat → Int32} {mf : Nat → Nat → Int32} {mi : Nat → Nat} (h : Nat → Nat) (hN : N ≤ 1100000) (h2 : mv 8 = nI N) (h6 : mv 11 = nI l) (hl : l ≤ 1) (hq : q < 2097152) (ho : mf 0 (32 * l + N % 32) = nI q) : F_Ma_fetch h mv mf mi = some (hsw h, rdM N q mv, mf, rdW q mi) := by
  have i1 : (32 : Int32) * nI l + (nI N - nI N / (32 : Int32) * (32 : Int32)) = nI (32 * l + N % 32) := by
    rw [i32, pk_rem (by omega) (by decide) (by decide), pk_mul, nI_add]
  have i3 : nI N - nI N / (32 : Int32) * (32 : Int32) = nI (N % 32) := by rw [i32, pk_rem (by omega) (by decide) (by decide)]
  have r163 : ∀ (g : Nat) (s1 : Int32) (V : Nat → Int32), V 8 = nI N → F_Ma_fetch_163 h (nI q) (nI g) s1 V mf mi = some (hsw h, vsw (va_up (va_up (va_up (va_up V 51 s1) 11 (nI (q / 1048576))) 12 (nI (N + 2 + g))) 13 (0 : Int32)), mf, rdW q mi) := by
    intro g s1 V e2
    unfold F_Ma_fetch_163
    rw [e2, o_src q hq, o_dst q hq, if_neg (nI_in (show q % 16 < 16 by omega) (by decide)), if_neg (nI_in (show q / 16 % 16 < 16 by omega) (by decide)), o_line q hq, nI_clamp (by omega), nI_clamp (by omega), i2, nI_add, nI_add]
    rfl
  have r79 : ∀ (V : Nat → Int32), V 8 = nI N → F_Ma_fetch_79 h (nI q) (nI (q / 1024 % 32)) (nI (gp q)) V mf mi = some (hsw h, vsw (va_up (va_up (va_up (va_up (va_up V 50 (nI (N + 2 + q / 1024 % 32))) 51 (nI (en N q))) 11 (nI (q / 1048576))) 12 (nI (N + 2 + gp q))) 13 (0 : Int32)), mf, rdW q mi) := by
    intro V e2
    unfold F_Ma_fetch_79
    rw [e2, o_kind q hq, i2, nI_add, nI_add, nI_add, nI_1]
    by_cases h1 : q / 256 % 4 = 1
    · rw [if_pos (by rw [h1]; rfl), r163]
      · unfold en
        rw [if_pos h1]
      · exact e2
    · rw [if_neg (show ¬ nI (q / 256 % 4) = (1 : Int32) from fun e => h1 ((nI_eq (b := 1) (by omega) (by decide)).mp e))]
      by_cases h3 : q / 256 % 4 = 2
      · rw [if_pos (by rw [h3]), r163]
        · unfold en
          rw [if_neg h1, if_pos h3]
        · exact e2
      · rw [if_neg (fun e => h3 ((nI_eq (b := 2) (by omega) (by decide)).mp e)), r163]
        · unfold en
          rw [if_neg h1, if_neg h3]
        · exact e2
  unfold F_Ma_fetch
  rw [h2, h6, i1, i3, if_neg (nI_in (by omega) (by decide)), nI_clamp (by omega), ho, o_wait q hq, o_time q hq]
  have hV : (va_up (va_up (va_up mv 15 (nI l)) 16 (nI (N % 32))) 17 ((mv 17) + (1 : Int32))) 8 = nI N := h2
  by_cases hw : q / 1024 % 32 ≤ q / 32768 % 32
  · have hg : gp q = q / 32768 % 32 := if_pos hw
    rw [if_pos (nI_le hw (by omega)), ← hg, r79 _ hV]
    unfold rdM
    rw [h6]
  · have hg : gp q = q / 32768 % 32 + 32 := if_neg hw
    rw [if_neg (nI_ge (by omega) (by omega)), i32, nI_add, ← hg, r79 _ hV]
    unfold rdM
    rw [h6]
