theorem st_operation {t : Nat → Nat → Int32} {v : Nat → Int32} {f : Nat → Nat → Int32} {u : Nat → Nat → Int32} {la : Nat → Option Nat} {k n : Nat} (hn : n ≤ 12) (hk : k < n) (h : v 21 = nI n) : F_St_operation t k v f u la = some (t k 0) := by
  unfold F_St_operation
  rw [h, nI_clamp (by omega), if_neg (by omega)]
theorem st_a {t : Nat → Nat → Int32} {v : Nat → Int32} {f : Nat → Nat → Int32} {u : Nat → Nat → Int32} {la : Nat → Option Nat} {k n : Nat} (hn : n ≤ 12) (hk : k < n) (h : v 21 = nI n) : F_St_a t k v f u la = some (t k 1) := by
  unfold F_St_a
  rw [h, nI_clamp (by omega), if_neg (by omega)]
theorem st_b {t : Nat → Nat → Int32} {v : Nat → Int32} {f : Nat → Nat → Int32} {u : Nat → Nat → Int32} {la : Nat → Option Nat} {k n : Nat} (hn : n ≤ 12) (hk : k < n) (h : v 21 = nI n) : F_St_b t k v f u la = some (t k 2) := by
  unfold F_St_b
  rw [h, nI_clamp (by omega), if_neg (by omega)]
theorem st_c {t : Nat → Nat → Int32} {v : Nat → Int32} {f : Nat → Nat → Int32} {u : Nat → Nat → Int32} {la : Nat → Option Nat} {k n : Nat} (hn : n ≤ 12) (hk : k < n) (h : v 21 = nI n) : F_St_c t k v f u la = some (t k 3) := by
  unfold F_St_c
  rw [h, nI_clamp (by omega), if_neg (by omega)]
theorem st_go {t : Nat → Nat → Int32} {v : Nat → Int32} {f : Nat → Nat → Int32} {u : Nat → Nat → Int32} {la : Nat → Option Nat} {k n : Nat} (hn : n ≤ 12) (hk : k < n) (h : v 21 = nI n) : F_St_go t k v f u la = some (t k 4) := by
  unfold F_St_go
  rw [h, nI_clamp (by omega), if_neg (by omega)]
theorem ent.mv {tf tf1 : Nat → Nat → Int32} {i a b k : Nat} {x : Int32} (h : ent tf i a b x k) (hT : ∀ k, (k < 39 ∨ 43 < k) → tf1 k = tf k) : ent tf1 i a b x k := by
  unfold ent
  rw [hT 35 (by decide), hT 36 (by decide), hT 37 (by decide), hT 38 (by decide)]
  exact h
theorem pF.trans {i i' : Nat} {f f1 f2 tf tf1 tf2 : Nat → Nat → Int32} {v v1 v2 : Nat → Int32} (h : pF i f f1 tf tf1 v v1) (h2 : pF i' f1 f2 tf1 tf2 v1 v2) (hi : i ≤ i') : pF i f f2 tf tf2 v v2 :=
  ⟨fun k hk => (h2.1 k hk).trans (h.1 k hk), fun k k1 k2 => (h2.2.1 k k1 k2).trans (h.2.1 k k1 k2), fun k k1 k2 k3 k4 => (h2.2.2.1 k k1 k2 k3 k4).trans (h.2.2.1 k k1 k2 k3 k4), fun j hj => ⟨(h2.2.2.2 j (by omega)).1.trans (h.2.2.2 j hj).1, (h2.2.2.2 j (by omega)).2.trans (h.2.2.2 j hj).2⟩⟩
theorem pF.rf {i : Nat} {f tf : Nat → Nat → Int32} {v : Nat → Int32} : pF i f f tf tf v v := ⟨fun _ _ => rfl, fun _ _ _ => rfl, fun _ _ _ _ _ => rfl, fun _ _ => ⟨rfl, rfl⟩⟩
/-- it does not fit: what is left of the component's state, and what the model answers -/
def LFail (v : Nat → Int32) (f : Nat → Nat → Int32) (tv : Nat → Int32) (tf : Nat → Nat → Int32) (C : Option ((Nat → Int32) × (Nat → Nat → Int32) × (Nat → Nat → Int32) × (Nat → Option Nat))) (M : Option (Int32 × (Nat → Int32) × (Nat → Nat → Int32))) : Prop :=
  ∃ v1 f1 u1 la1 tf1, C = some (v1, f1, u1, la1) ∧ v1 9 = 0 ∧ (∃ fr, fr < 32 ∧ v1 8 = nI fr) ∧ (∃ m, m ≤ 37 ∧ v1 20 = nI m) ∧ (∀ k, k ≠ 2 → k ≠ 8 → k ≠ 9 → k ≠ 20 → v1 k = v k) ∧ (∀ k, k ≠ 3 → k ≠ 4 → f1 k = f k) ∧ M = some (0, tv, tf1) ∧ ∀ k, (k < 39 ∨ 43 < k) → tf1 k = tf k
/-- it fits: both go on at i1 -/
def LGo (kd nx : Nat → Nat) (go : Nat → Int32) (i : Nat) (v : Nat → Int32) (f : Nat → Nat → Int32) (tv : Nat → Int32) (tf : Nat → Nat → Int32) (C : Option ((Nat → Int32) × (Nat → Nat → Int32) × (Nat → Nat → Int32) × (Nat → Option Nat))) (M : Option (Int32 × (Nat → Int32) × (Nat → Nat → Int32))) (i1 N : Nat) (nl : Prop) : Prop :=
  ∃ fr1 v1 f1 u1 la1 tf1 N1, C = some (v1, f1, u1, la1) ∧ N ≤ N1 ∧ M = F_Mo_place_67 N1 (nI fr1) (nI i1) tv tf1 ∧ J0 i1 fr1 v1 f1 u1 tf1 ∧ S0 kd nx go i1 u1 la1 tf1 ∧ pF i f f1 tf tf1 v v1 ∧ (nl ↔ la1 0 = none)
theorem mkFail {i fr : Nat} {v v1 tv : Nat → Int32} {f u tf f1 tf1 : Nat → Nat → Int32} {la : Nat → Option Nat} {C : Option ((Nat → Int32) × (Nat → Nat → Int32) × (Nat → Nat → Int32) × (Nat → Option Nat))} {M : Option (Int32 × (Nat → Int32) × (Nat → Nat → Int32))} (hJ : J0 i fr v1 f1 u tf1) (hF : pF 0 f f1 tf tf1 v v1) (hC : C = some (va_up v1 9 0, f1, u, la)) (hM : M = some (0, tv, tf1)) : LFail v f tv tf C M := by
  obtain ⟨j1, j2, j3, j4, ⟨m, j5, j6, j7⟩, j8, j9, j10⟩ := hJ
  exact ⟨va_up v1 9 0, f1, u, la, tf1, hC, rfl, ⟨fr, j4, j3⟩, ⟨m, j5, j7⟩, fun k k1 k2 k3 k4 => (va_up_ne _ _ k3).trans (hF.2.2.1 k k1 k2 k3 k4), hF.2.1, hM, hF.1⟩
theorem pF.z {i : Nat} {f f1 tf tf1 : Nat → Nat → Int32} {v v1 : Nat → Int32} (h : pF i f f1 tf tf1 v v1) : pF 0 f f1 tf tf1 v v1 := ⟨h.1, h.2.1, h.2.2.1, fun _ hj => absurd hj (Nat.not_lt_zero _)⟩
theorem kd_mv {kd nx : Nat → Nat} {tf tf1 : Nat → Nat → Int32} (hkd : ∀ j, kd j = kdT tf j) (hnx : ∀ j, nx j = nxT tf j) (hT : ∀ k, (k < 39 ∨ 43 < k) → tf1 k = tf k) : (∀ j, kd j = kdT tf1 j) ∧ ∀ j, nx j = nxT tf1 j := by
  refine ⟨fun j => ?_, fun j => ?_⟩
  · rw [hkd j]
    unfold kdT
    rw [hT 36 (by decide)]
  · rw [hnx j]
    unfold nxT
    rw [hT 36 (by decide)]
/-- one order of a statement -/
theorem ord_e {t : Nat → Nat → Int32} {kd nx : Nat → Nat} {go : Nat → Int32} {i fr a b Lz k : Nat} {v tv : Nat → Int32} {f u tf : Nat → Nat → Int32} {la : Nat → Option Nat} {x3 : Int32} (N : Nat) (he : ent tf i a b x3 k) (hb2 : 2 ≤ b) (hb : b < 16) (ha : a < 16) (hx : ∃ c, c < 16 ∧ x3 = nI c) (hJ : J0 i fr v f u tf) (hS : S0 kd nx go i u la tf) (hL : tv 34 = nI Lz) (hiL : i < Lz) (hL2 : Lz ≤ 37) (hkd : ∀ j, kd j = kdT tf j) (hnx : ∀ j, nx j = nxT tf j) :
    (F_As_place t (nI a) (nI b) x3 v f u la = some (none, va_up v 9 0, f, u, la) ∧ F_Mo_place_67 (N + 1) (nI fr) (nI i) tv tf = some (0, tv, tf)) ∨
    (∃ fr1 v1 f1 u1 la1 tf1, F_As_place t (nI a) (nI b) x3 v f u la = some (some i, v1, f1, u1, la1) ∧ F_Mo_place_67 (N + 1) (nI fr) (nI i) tv tf = F_Mo_place_67 N (nI fr1) (nI (i + 1)) tv tf1 ∧ J0 (i + 1) fr1 v1 f1 u1 tf1 ∧ S0 kd nx go (i + 1) u1 la1 tf1 ∧ pF i f f1 tf tf1 v v1 ∧ la1 0 ≠ none) := by
  obtain ⟨k1, k2⟩ := kd_ord he hb2 hb
  exact ord_ok x3 N (by omega) hJ hS he.1 ha he.2.1 hb (by omega) he.2.2.1 (Or.inr hx) hL hiL (by omega) ((hkd i).trans k1) ((hnx i).trans k2)
theorem lay_3 {t : Nat → Nat → Int32} {kd nx : Nat → Nat} {go : Nat → Int32} {i fr k n Lz N : Nat} {v tv : Nat → Int32} {f u tf : Nat → Nat → Int32} {la : Nat → Option Nat} (hn : n ≤ 12) (hk : k < n) (h21 : v 21 = nI n) (hJ : J0 i fr v f u tf) (hS : S0 kd nx go i u la tf) (hL : tv 34 = nI Lz) (hL2 : Lz ≤ 37) (hkd : ∀ j, kd j = kdT tf j) (hnx : ∀ j, nx j = nxT tf j) (hiL : i + 1 ≤ Lz) (ho : t k 0 = nI 3) (hx : ∃ c, c < 16 ∧ t k 1 = nI c) (e1 : ent tf i 2 15 (t k 1) k) : LFail v f tv tf (F_As_lay t k v f u la) (F_Mo_place_67 (N + 3) (nI fr) (nI i) tv tf) ∨ LGo kd nx go i v f tv tf (F_As_lay t k v f u la) (F_Mo_place_67 (N + 3) (nI fr) (nI i) tv tf) (i + 1) N (False) := by
  have c0 : ¬ (v 21).toNatClampNeg ≤ k := by rw [h21, nI_clamp (by omega)]; omega
  have eL : F_As_lay t k v f u la = Option.bind (F_As_place t (nI 2) (nI 15) (t k 1) v f u la) (fun z => some (z.2.1, z.2.2.1, z.2.2.2.1, z.2.2.2.2)) := by
    unfold F_As_lay
    rw [if_neg c0, st_operation hn hk h21, Option.bind_some, ho, if_neg (by decide), if_neg (by decide), if_neg (by decide), if_pos (show nI 3 = (3 : Int32) from rfl), if_neg c0, st_a hn hk h21, Option.bind_some]
    rfl
  rw [eL]
  rcases ord_e (t := t) (tv := tv) (N + 2) e1 (by decide) (by decide) (by decide) hx hJ hS hL (by omega) hL2 hkd hnx with ⟨p1, p2⟩ | ⟨fr1, v1, f1, u1, la1, tf1, p1, p2, p3, p4, p5, p6⟩
  · rw [p1, p2]
    exact Or.inl (mkFail hJ pF.rf rfl rfl)
  · rw [p1, p2]
    exact Or.inr ⟨fr1, v1, f1, u1, la1, tf1, N + 2, rfl, by omega, rfl, p3, p4, p5, fun q => q.elim, p6⟩
theorem lay_5 {t : Nat → Nat → Int32} {kd nx : Nat → Nat} {go : Nat → Int32} {i fr k n Lz N : Nat} {v tv : Nat → Int32} {f u tf : Nat → Nat → Int32} {la : Nat → Option Nat} (hn : n ≤ 12) (hk : k < n) (h21 : v 21 = nI n) (hJ : J0 i fr v f u tf) (hS : S0 kd nx go i u la tf) (hL : tv 34 = nI Lz) (hL2 : Lz ≤ 37) (hkd : ∀ j, kd j = kdT tf j) (hnx : ∀ j, nx j = nxT tf j) (hiL : i + 1 ≤ Lz) (ho : t k 0 = nI 5) (hx : ∃ c, c < 16 ∧ t k 3 = nI c) (e1 : ent tf i 13 2 (t k 3) k) : LFail v f tv tf (F_As_lay t k v f u la) (F_Mo_place_67 (N + 3) (nI fr) (nI i) tv tf) ∨ LGo kd nx go i v f tv tf (F_As_lay t k v f u la) (F_Mo_place_67 (N + 3) (nI fr) (nI i) tv tf) (i + 1) N (False) := by
  have c0 : ¬ (v 21).toNatClampNeg ≤ k := by rw [h21, nI_clamp (by omega)]; omega
  have eL : F_As_lay t k v f u la = Option.bind (F_As_place t (nI 13) (nI 2) (t k 3) v f u la) (fun z => some (z.2.1, z.2.2.1, z.2.2.2.1, z.2.2.2.2)) := by
    unfold F_As_lay
    rw [if_neg c0, st_operation hn hk h21, Option.bind_some, ho, if_neg (by decide), if_neg (by decide), if_neg (by decide), if_neg (by decide), if_neg (by decide), if_pos (show nI 5 = (5 : Int32) from rfl), if_neg c0, st_c hn hk h21, Option.bind_some]
    rfl
  rw [eL]
  rcases ord_e (t := t) (tv := tv) (N + 2) e1 (by decide) (by decide) (by decide) hx hJ hS hL (by omega) hL2 hkd hnx with ⟨p1, p2⟩ | ⟨fr1, v1, f1, u1, la1, tf1, p1, p2, p3, p4, p5, p6⟩
  · rw [p1, p2]
    exact Or.inl (mkFail hJ pF.rf rfl rfl)
  · rw [p1, p2]
    exact Or.inr ⟨fr1, v1, f1, u1, la1, tf1, N + 2, rfl, by omega, rfl, p3, p4, p5, fun q => q.elim, p6⟩
theorem lay_6 {t : Nat → Nat → Int32} {kd nx : Nat → Nat} {go : Nat → Int32} {i fr k n Lz N : Nat} {v tv : Nat → Int32} {f u tf : Nat → Nat → Int32} {la : Nat → Option Nat} (hn : n ≤ 12) (hk : k < n) (h21 : v 21 = nI n) (hJ : J0 i fr v f u tf) (hS : S0 kd nx go i u la tf) (hL : tv 34 = nI Lz) (hL2 : Lz ≤ 37) (hkd : ∀ j, kd j = kdT tf j) (hnx : ∀ j, nx j = nxT tf j) (hiL : i + 1 ≤ Lz) (ho : t k 0 = nI 6) (e1 : ent tf i 0 1 (-1) k) : LFail v f tv tf (F_As_lay t k v f u la) (F_Mo_place_67 (N + 3) (nI fr) (nI i) tv tf) ∨ LGo kd nx go i v f tv tf (F_As_lay t k v f u la) (F_Mo_place_67 (N + 3) (nI fr) (nI i) tv tf) (i + 1) N (True) := by
  have c0 : ¬ (v 21).toNatClampNeg ≤ k := by rw [h21, nI_clamp (by omega)]; omega
  have eL : F_As_lay t k v f u la = Option.bind (F_As_stop t v f u la) (fun z => some (z.1, z.2.1, z.2.2.1, z.2.2.2)) := by
    unfold F_As_lay
    rw [if_neg c0, st_operation hn hk h21, Option.bind_some, ho, if_neg (by decide), if_neg (by decide), if_neg (by decide), if_neg (by decide), if_neg (by decide), if_neg (by decide)]
  rw [eL]
  have hk1 : kd i = 1 := by
    rw [hkd i]
    unfold kdT
    rw [if_pos (show tf 36 i = 1 from e1.2.1)]
  rcases stop_ok (t := t) (tv := tv) (N + 2) (by omega) hJ hS e1.1 e1.2.1 e1.2.2.1 hL (by omega) (by omega) hk1 with ⟨p1, p2⟩ | ⟨fr1, v1, f1, u1, la1, tf1, p1, p2, p3, p4, p5, p6⟩
  · rw [p1, p2]
    exact Or.inl (mkFail hJ pF.rf rfl rfl)
  · rw [p1, p2]
    exact Or.inr ⟨fr1, v1, f1, u1, la1, tf1, N + 2, rfl, by omega, rfl, p3, p4, p5, fun _ => p6, fun _ => trivial⟩
theorem c_le {v : Nat → Int32} {k n : Nat} (hn : n ≤ 12) (hk : k < n) (h21 : v 21 = nI n) : ¬ (v 21).toNatClampNeg ≤ k := by
  rw [h21, nI_clamp (by omega)]
  omega
theorem LFail.tr {v v1 tv : Nat → Int32} {f f1 tf tf1 : Nat → Nat → Int32} {C : Option ((Nat → Int32) × (Nat → Nat → Int32) × (Nat → Nat → Int32) × (Nat → Option Nat))} {M : Option (Int32 × (Nat → Int32) × (Nat → Nat → Int32))} {i : Nat} (h : LFail v1 f1 tv tf1 C M) (hF : pF i f f1 tf tf1 v v1) : LFail v f tv tf C M := by
  obtain ⟨v2, f2, u2, la2, tf2, a1, a2, a3, a4, a5, a6, a7, a8⟩ := h
  exact ⟨v2, f2, u2, la2, tf2, a1, a2, a3, a4, fun k k1 k2 k3 k4 => (a5 k k1 k2 k3 k4).trans (hF.2.2.1 k k1 k2 k3 k4), fun k k1 k2 => (a6 k k1 k2).trans (hF.2.1 k k1 k2), a7, fun k hk => (a8 k hk).trans (hF.1 k hk)⟩
theorem LGo.tr {kd nx : Nat → Nat} {go : Nat → Int32} {v v1 tv : Nat → Int32} {f f1 tf tf1 : Nat → Nat → Int32} {C : Option ((Nat → Int32) × (Nat → Nat → Int32) × (Nat → Nat → Int32) × (Nat → Option Nat))} {M : Option (Int32 × (Nat → Int32) × (Nat → Nat → Int32))} {i i' i1 N N' : Nat} {nl : Prop} (h : LGo kd nx go i' v1 f1 tv tf1 C M i1 N' nl) (hF : pF i f f1 tf tf1 v v1) (hi : i ≤ i') (hN : N ≤ N') : LGo kd nx go i v f tv tf C M i1 N nl := by
  obtain ⟨fr2, v2, f2, u2, la2, tf2, N2, a1, a2, a3, a4, a5, a6, a7⟩ := h
  exact ⟨fr2, v2, f2, u2, la2, tf2, N2, a1, by omega, a3, a4, a5, hF.trans a6 hi, a7⟩
/-- one order, what comes after it in the component being K -/
theorem ord_c {t : Nat → Nat → Int32} {kd nx : Nat → Nat} {go : Nat → Int32} {i fr k n Lz N : Nat} {v tv : Nat → Int32} {f u tf : Nat → Nat → Int32} {la : Nat → Option Nat} {a b : Nat} {x3 : Int32} {i1 N' : Nat} {nl : Prop} (hn : n ≤ 12) (hk : k < n) (h21 : v 21 = nI n) (hJ : J0 i fr v f u tf) (hS : S0 kd nx go i u la tf) (hL : tv 34 = nI Lz) (hL2 : Lz ≤ 37) (hkd : ∀ j, kd j = kdT tf j) (hnx : ∀ j, nx j = nxT tf j) (hiL : i < Lz) (he : ent tf i a b x3 k) (hb2 : 2 ≤ b) (hb : b < 16) (ha : a < 16) (hx : ∃ c, c < 16 ∧ x3 = nI c)
    (K : (Nat → Int32) → (Nat → Nat → Int32) → (Nat → Nat → Int32) → (Nat → Option Nat) → Option ((Nat → Int32) × (Nat → Nat → Int32) × (Nat → Nat → Int32) × (Nat → Option Nat)))
    (hnot : ∀ v1 : Nat → Int32, v1 21 = nI n → v1 9 = 0 → v1 8 = nI fr → K v1 f u la = some (v1, f, u, la))
    (hgo : ∀ fr1 v1 f1 u1 la1 tf1, v1 21 = nI n → J0 (i + 1) fr1 v1 f1 u1 tf1 → S0 kd nx go (i + 1) u1 la1 tf1 → pF i f f1 tf tf1 v v1 → (∀ j, kd j = kdT tf1 j) → (∀ j, nx j = nxT tf1 j) → la1 0 ≠ none → LFail v1 f1 tv tf1 (K v1 f1 u1 la1) (F_Mo_place_67 N (nI fr1) (nI (i + 1)) tv tf1) ∨ LGo kd nx go (i + 1) v1 f1 tv tf1 (K v1 f1 u1 la1) (F_Mo_place_67 N (nI fr1) (nI (i + 1)) tv tf1) i1 N' nl) :
    LFail v f tv tf (Option.bind (F_As_place t (nI a) (nI b) x3 v f u la) (fun z => K z.2.1 z.2.2.1 z.2.2.2.1 z.2.2.2.2)) (F_Mo_place_67 (N + 1) (nI fr) (nI i) tv tf) ∨ LGo kd nx go i v f tv tf (Option.bind (F_As_place t (nI a) (nI b) x3 v f u la) (fun z => K z.2.1 z.2.2.1 z.2.2.2.1 z.2.2.2.2)) (F_Mo_place_67 (N + 1) (nI fr) (nI i) tv tf) i1 N' nl := by
  rcases ord_e (t := t) (tv := tv) N he hb2 hb ha hx hJ hS hL hiL hL2 hkd hnx with ⟨p1, p2⟩ | ⟨fr1, v1, f1, u1, la1, tf1, p1, p2, p3, p4, p5, p6⟩
  · rw [p1, p2, Option.bind_some]
    refine Or.inl ?_
    refine mkFail hJ pF.rf (hnot (va_up v 9 0) ((va_up_ne _ _ (by decide)).trans h21) rfl ?_) rfl
    exact (va_up_ne _ _ (by decide)).trans hJ.2.2.1
  · rw [p1, p2, Option.bind_some]
    obtain ⟨q1, q2⟩ := kd_mv hkd hnx p5.1
    rcases hgo fr1 v1 f1 u1 la1 tf1 ((p5.2.2.1 21 (by decide) (by decide) (by decide) (by decide)).trans h21) p3 p4 p5 q1 q2 p6 with h | h
    · exact Or.inl (h.tr p5)
    · exact Or.inr (h.tr p5 (by omega) (Nat.le_refl _))
theorem place_fin {t : Nat → Nat → Int32} {kd nx : Nat → Nat} {go : Nat → Int32} {i fr k n Lz N : Nat} {v tv : Nat → Int32} {f u tf : Nat → Nat → Int32} {la : Nat → Option Nat} {a b : Nat} {x3 : Int32} (hn : n ≤ 12) (hk : k < n) (h21 : v 21 = nI n) (hJ : J0 i fr v f u tf) (hS : S0 kd nx go i u la tf) (hL : tv 34 = nI Lz) (hL2 : Lz ≤ 37) (hkd : ∀ j, kd j = kdT tf j) (hnx : ∀ j, nx j = nxT tf j) (hiL : i < Lz) (he : ent tf i a b x3 k) (hb2 : 2 ≤ b) (hb : b < 16) (ha : a < 16) (hx : ∃ c, c < 16 ∧ x3 = nI c) :
    LFail v f tv tf (Option.bind (F_As_place t (nI a) (nI b) x3 v f u la) (fun z => some (z.2.1, z.2.2.1, z.2.2.2.1, z.2.2.2.2))) (F_Mo_place_67 (N + 1) (nI fr) (nI i) tv tf) ∨ LGo kd nx go i v f tv tf (Option.bind (F_As_place t (nI a) (nI b) x3 v f u la) (fun z => some (z.2.1, z.2.2.1, z.2.2.2.1, z.2.2.2.2))) (F_Mo_place_67 (N + 1) (nI fr) (nI i) tv tf) (i + 1) N False := by
  rcases ord_e (t := t) (tv := tv) N he hb2 hb ha hx hJ hS hL hiL hL2 hkd hnx with ⟨p1, p2⟩ | ⟨fr1, v1, f1, u1, la1, tf1, p1, p2, p3, p4, p5, p6⟩
  · rw [p1, p2]
    exact Or.inl (mkFail hJ pF.rf rfl rfl)
  · rw [p1, p2]
    exact Or.inr ⟨fr1, v1, f1, u1, la1, tf1, N, rfl, Nat.le_refl _, rfl, p3, p4, p5, fun q => q.elim, p6⟩
def K_c (t : Nat → Nat → Int32) (k : Nat) (v : Nat → Int32) (f : Nat → Nat → Int32) (u : Nat → Nat → Int32) (la : Nat → Option Nat) : Option ((Nat → Int32) × (Nat → Nat → Int32) × (Nat → Nat → Int32) × (Nat → Option Nat)) :=
  if (v 21).toNatClampNeg ≤ k then none else (Option.bind (F_St_c t k v f u la) (fun z3 => (Option.bind (F_As_place t (6 : Int32) (2 : Int32) z3 v f u la) (fun z4 => (some (z4.2.1, z4.2.2.1, z4.2.2.2.1, z4.2.2.2.2))))))
theorem K_c_not {t : Nat → Nat → Int32} {v : Nat → Int32} {f : Nat → Nat → Int32} {u : Nat → Nat → Int32} {la : Nat → Option Nat} {k n fr : Nat} (hn : n ≤ 12) (hk : k < n) (h21 : v 21 = nI n) (h9 : v 9 = 0) (hfr : fr < 32) (h8 : v 8 = nI fr) : K_c t k v f u la = some (v, f, u, la) := by
  unfold K_c
  rw [if_neg (c_le hn hk h21), st_c hn hk h21, Option.bind_some, place_not _ _ _ hfr h8 h9]
  rfl
theorem K_c_ok {t : Nat → Nat → Int32} {kd nx : Nat → Nat} {go : Nat → Int32} {i fr k n Lz N : Nat} {v tv : Nat → Int32} {f u tf : Nat → Nat → Int32} {la : Nat → Option Nat} (hn : n ≤ 12) (hk : k < n) (h21 : v 21 = nI n) (hJ : J0 i fr v f u tf) (hS : S0 kd nx go i u la tf) (hL : tv 34 = nI Lz) (hL2 : Lz ≤ 37) (hkd : ∀ j, kd j = kdT tf j) (hnx : ∀ j, nx j = nxT tf j) (hiL : i < Lz) (hx : ∃ c, c < 16 ∧ t k 3 = nI c) (he : ent tf i 6 2 (t k 3) k) : LFail v f tv tf (K_c t k v f u la) (F_Mo_place_67 (N + 1) (nI fr) (nI i) tv tf) ∨ LGo kd nx go i v f tv tf (K_c t k v f u la) (F_Mo_place_67 (N + 1) (nI fr) (nI i) tv tf) (i + 1) N False := by
  unfold K_c
  rw [if_neg (c_le hn hk h21), st_c hn hk h21, Option.bind_some]
  exact place_fin hn hk h21 hJ hS hL hL2 hkd hnx hiL he (by decide) (by decide) (by decide) hx
theorem lay_72_not {t : Nat → Nat → Int32} {v : Nat → Int32} {f : Nat → Nat → Int32} {u : Nat → Nat → Int32} {la : Nat → Option Nat} {k n fr : Nat} (s2 : Int32) (hn : n ≤ 12) (hk : k < n) (h21 : v 21 = nI n) (h9 : v 9 = 0) (hfr : fr < 32) (h8 : v 8 = nI fr) : F_As_lay_72 t k s2 v f u la = some (v, f, u, la) := by
  unfold F_As_lay_72
  rw [if_neg (c_le hn hk h21), st_b hn hk h21, Option.bind_some, place_not _ _ _ hfr h8 h9, Option.bind_some]
  exact K_c_not hn hk h21 h9 hfr h8
theorem lay_72_ok {t : Nat → Nat → Int32} {kd nx : Nat → Nat} {go : Nat → Int32} {i fr k n Lz N : Nat} {v tv : Nat → Int32} {f u tf : Nat → Nat → Int32} {la : Nat → Option Nat} {b : Nat} (hn : n ≤ 12) (hk : k < n) (h21 : v 21 = nI n) (hJ : J0 i fr v f u tf) (hS : S0 kd nx go i u la tf) (hL : tv 34 = nI Lz) (hL2 : Lz ≤ 37) (hkd : ∀ j, kd j = kdT tf j) (hnx : ∀ j, nx j = nxT tf j) (hiL : i + 1 < Lz) (hb2 : 2 ≤ b) (hb : b < 16) (hxb : ∃ c, c < 16 ∧ t k 2 = nI c) (hxc : ∃ c, c < 16 ∧ t k 3 = nI c) (e1 : ent tf i 2 b (t k 2) k) (e2 : ent tf (i + 1) 6 2 (t k 3) k) : LFail v f tv tf (F_As_lay_72 t k (nI b) v f u la) (F_Mo_place_67 (N + 2) (nI fr) (nI i) tv tf) ∨ LGo kd nx go i v f tv tf (F_As_lay_72 t k (nI b) v f u la) (F_Mo_place_67 (N + 2) (nI fr) (nI i) tv tf) (i + 2) N False := by
  unfold F_As_lay_72
  rw [if_neg (c_le hn hk h21), st_b hn hk h21, Option.bind_some]
  refine ord_c (N := N + 1) (N' := N) (i1 := i + 2) (nl := False) hn hk h21 hJ hS hL hL2 hkd hnx (by omega) e1 hb2 hb (by decide) hxb (K_c t k) (fun v1 q1 q2 q3 => K_c_not hn hk q1 q2 hJ.2.2.2.1 q3) ?_
  intro fr1 v1 f1 u1 la1 tf1 g1 g2 g3 g4 g5 g6 g7
  exact K_c_ok (t := t) (tv := tv) (N := N) hn hk g1 g2 g3 hL hL2 g5 g6 hiL hxc (e2.mv g4.1)
def K_o (t : Nat → Nat → Int32) (k : Nat) (v : Nat → Int32) (f : Nat → Nat → Int32) (u : Nat → Nat → Int32) (la : Nat → Option Nat) : Option ((Nat → Int32) × (Nat → Nat → Int32) × (Nat → Nat → Int32) × (Nat → Option Nat)) :=
  if (v 21).toNatClampNeg ≤ k then none else (Option.bind (F_St_operation t k v f u la) (fun z4 => (if z4 = (0 : Int32) then (F_As_lay_72 t k (9 : Int32) v f u la) else (F_As_lay_72 t k (10 : Int32) v f u la))))
theorem K_o_not {t : Nat → Nat → Int32} {v : Nat → Int32} {f : Nat → Nat → Int32} {u : Nat → Nat → Int32} {la : Nat → Option Nat} {k n fr : Nat} (hn : n ≤ 12) (hk : k < n) (h21 : v 21 = nI n) (h9 : v 9 = 0) (hfr : fr < 32) (h8 : v 8 = nI fr) : K_o t k v f u la = some (v, f, u, la) := by
  unfold K_o
  rw [if_neg (c_le hn hk h21), st_operation hn hk h21, Option.bind_some, lay_72_not _ hn hk h21 h9 hfr h8, lay_72_not _ hn hk h21 h9 hfr h8, ite_self]
def K_g (t : Nat → Nat → Int32) (k : Nat) (v : Nat → Int32) (f : Nat → Nat → Int32) (u : Nat → Nat → Int32) (la : Nat → Option Nat) : Option ((Nat → Int32) × (Nat → Nat → Int32) × (Nat → Nat → Int32) × (Nat → Option Nat)) :=
  if (v 21).toNatClampNeg ≤ k then none else (Option.bind (F_St_go t k v f u la) (fun z16 => (Option.bind (F_As_fork t z16 v f u la) (fun z17 => (some (z17.1, z17.2.1, z17.2.2.1, z17.2.2.2))))))
theorem K_g_not {t : Nat → Nat → Int32} {v : Nat → Int32} {f : Nat → Nat → Int32} {u : Nat → Nat → Int32} {la : Nat → Option Nat} {k n fr : Nat} (hn : n ≤ 12) (hk : k < n) (h21 : v 21 = nI n) (h9 : v 9 = 0) (_hfr : fr < 32) (_h8 : v 8 = nI fr) : K_g t k v f u la = some (v, f, u, la) := by
  unfold K_g
  rw [if_neg (c_le hn hk h21), st_go hn hk h21, Option.bind_some, fork_not _ h9]
  rfl
theorem lay_0 {t : Nat → Nat → Int32} {kd nx : Nat → Nat} {go : Nat → Int32} {i fr k n Lz N : Nat} {v tv : Nat → Int32} {f u tf : Nat → Nat → Int32} {la : Nat → Option Nat} (hn : n ≤ 12) (hk : k < n) (h21 : v 21 = nI n) (hJ : J0 i fr v f u tf) (hS : S0 kd nx go i u la tf) (hL : tv 34 = nI Lz) (hL2 : Lz ≤ 37) (hkd : ∀ j, kd j = kdT tf j) (hnx : ∀ j, nx j = nxT tf j) (hiL : i + 3 ≤ Lz) (ho : t k 0 = nI 0) (hxa : ∃ c, c < 16 ∧ t k 1 = nI c) (hxb : ∃ c, c < 16 ∧ t k 2 = nI c) (hxc : ∃ c, c < 16 ∧ t k 3 = nI c) (e1 : ent tf i 2 6 (t k 1) k) (e2 : ent tf (i + 1) 2 9 (t k 2) k) (e3 : ent tf (i + 2) 6 2 (t k 3) k) : LFail v f tv tf (F_As_lay t k v f u la) (F_Mo_place_67 (N + 3) (nI fr) (nI i) tv tf) ∨ LGo kd nx go i v f tv tf (F_As_lay t k v f u la) (F_Mo_place_67 (N + 3) (nI fr) (nI i) tv tf) (i + 3) N (False) := by
  have c0 := c_le hn hk h21
  have eL : F_As_lay t k v f u la = Option.bind (F_As_place t (nI 2) (nI 6) (t k 1) v f u la) (fun z => K_o t k z.2.1 z.2.2.1 z.2.2.2.1 z.2.2.2.2) := by
    unfold F_As_lay
    rw [if_neg c0, st_operation hn hk h21, Option.bind_some, ho, if_pos (show nI 0 = (0 : Int32) from rfl), if_neg c0, st_a hn hk h21, Option.bind_some]
    rfl
  rw [eL]
  refine ord_c (N := N + 2) (N' := N) (i1 := i + 3) (nl := False) hn hk h21 hJ hS hL hL2 hkd hnx (by omega) e1 (by decide) (by decide) (by decide) hxa (K_o t k) (fun v1 q1 q2 q3 => K_o_not hn hk q1 q2 hJ.2.2.2.1 q3) ?_
  intro fr1 v1 f1 u1 la1 tf1 g1 g2 g3 g4 g5 g6 g7
  have eK : K_o t k v1 f1 u1 la1 = F_As_lay_72 t k (nI 9) v1 f1 u1 la1 := by
    unfold K_o
    rw [if_neg (c_le hn hk g1), st_operation hn hk g1, Option.bind_some, ho, if_pos (show nI 0 = (0 : Int32) from rfl)]
    rfl
  rw [eK]
  exact lay_72_ok (t := t) (tv := tv) (N := N) hn hk g1 g2 g3 hL hL2 g5 g6 (by omega) (by decide) (by decide) hxb hxc (e2.mv g4.1) (e3.mv g4.1)
theorem lay_1 {t : Nat → Nat → Int32} {kd nx : Nat → Nat} {go : Nat → Int32} {i fr k n Lz N : Nat} {v tv : Nat → Int32} {f u tf : Nat → Nat → Int32} {la : Nat → Option Nat} (hn : n ≤ 12) (hk : k < n) (h21 : v 21 = nI n) (hJ : J0 i fr v f u tf) (hS : S0 kd nx go i u la tf) (hL : tv 34 = nI Lz) (hL2 : Lz ≤ 37) (hkd : ∀ j, kd j = kdT tf j) (hnx : ∀ j, nx j = nxT tf j) (hiL : i + 3 ≤ Lz) (ho : t k 0 = nI 1) (hxa : ∃ c, c < 16 ∧ t k 1 = nI c) (hxb : ∃ c, c < 16 ∧ t k 2 = nI c) (hxc : ∃ c, c < 16 ∧ t k 3 = nI c) (e1 : ent tf i 2 6 (t k 1) k) (e2 : ent tf (i + 1) 2 10 (t k 2) k) (e3 : ent tf (i + 2) 6 2 (t k 3) k) : LFail v f tv tf (F_As_lay t k v f u la) (F_Mo_place_67 (N + 3) (nI fr) (nI i) tv tf) ∨ LGo kd nx go i v f tv tf (F_As_lay t k v f u la) (F_Mo_place_67 (N + 3) (nI fr) (nI i) tv tf) (i + 3) N (False) := by
  have c0 := c_le hn hk h21
  have eL : F_As_lay t k v f u la = Option.bind (F_As_place t (nI 2) (nI 6) (t k 1) v f u la) (fun z => K_o t k z.2.1 z.2.2.1 z.2.2.2.1 z.2.2.2.2) := by
    unfold F_As_lay
    rw [if_neg c0, st_operation hn hk h21, Option.bind_some, ho, if_neg (by decide), if_pos (show nI 1 = (1 : Int32) from rfl), if_neg c0, st_a hn hk h21, Option.bind_some]
    rfl
  rw [eL]
  refine ord_c (N := N + 2) (N' := N) (i1 := i + 3) (nl := False) hn hk h21 hJ hS hL hL2 hkd hnx (by omega) e1 (by decide) (by decide) (by decide) hxa (K_o t k) (fun v1 q1 q2 q3 => K_o_not hn hk q1 q2 hJ.2.2.2.1 q3) ?_
  intro fr1 v1 f1 u1 la1 tf1 g1 g2 g3 g4 g5 g6 g7
  have eK : K_o t k v1 f1 u1 la1 = F_As_lay_72 t k (nI 10) v1 f1 u1 la1 := by
    unfold K_o
    rw [if_neg (c_le hn hk g1), st_operation hn hk g1, Option.bind_some, ho, if_neg (by decide)]
    rfl
  rw [eK]
  exact lay_72_ok (t := t) (tv := tv) (N := N) hn hk g1 g2 g3 hL hL2 g5 g6 (by omega) (by decide) (by decide) hxb hxc (e2.mv g4.1) (e3.mv g4.1)
theorem lay_2 {t : Nat → Nat → Int32} {kd nx : Nat → Nat} {go : Nat → Int32} {i fr k n Lz N : Nat} {v tv : Nat → Int32} {f u tf : Nat → Nat → Int32} {la : Nat → Option Nat} (hn : n ≤ 12) (hk : k < n) (h21 : v 21 = nI n) (hJ : J0 i fr v f u tf) (hS : S0 kd nx go i u la tf) (hL : tv 34 = nI Lz) (hL2 : Lz ≤ 37) (hkd : ∀ j, kd j = kdT tf j) (hnx : ∀ j, nx j = nxT tf j) (hiL : i + 2 ≤ Lz) (ho : t k 0 = nI 2) (hxa : ∃ c, c < 16 ∧ t k 1 = nI c) (hxc : ∃ c, c < 16 ∧ t k 3 = nI c) (e1 : ent tf i 2 6 (t k 1) k) (e3 : ent tf (i + 1) 6 2 (t k 3) k) : LFail v f tv tf (F_As_lay t k v f u la) (F_Mo_place_67 (N + 3) (nI fr) (nI i) tv tf) ∨ LGo kd nx go i v f tv tf (F_As_lay t k v f u la) (F_Mo_place_67 (N + 3) (nI fr) (nI i) tv tf) (i + 2) N (False) := by
  have c0 := c_le hn hk h21
  have eL : F_As_lay t k v f u la = Option.bind (F_As_place t (nI 2) (nI 6) (t k 1) v f u la) (fun z => K_c t k z.2.1 z.2.2.1 z.2.2.2.1 z.2.2.2.2) := by
    unfold F_As_lay
    rw [if_neg c0, st_operation hn hk h21, Option.bind_some, ho, if_neg (by decide), if_neg (by decide), if_pos (show nI 2 = (2 : Int32) from rfl), if_neg c0, st_a hn hk h21, Option.bind_some]
    rfl
  rw [eL]
  refine ord_c (N := N + 2) (N' := N) (i1 := i + 2) (nl := False) hn hk h21 hJ hS hL hL2 hkd hnx (by omega) e1 (by decide) (by decide) (by decide) hxa (K_c t k) (fun v1 q1 q2 q3 => K_c_not hn hk q1 q2 hJ.2.2.2.1 q3) ?_
  intro fr1 v1 f1 u1 la1 tf1 g1 g2 g3 g4 g5 g6 g7
  rcases K_c_ok (t := t) (tv := tv) (N := N + 1) hn hk g1 g2 g3 hL hL2 g5 g6 (by omega) hxc (e3.mv g4.1) with h | h
  · exact Or.inl h
  · exact Or.inr (h.tr pF.rf (Nat.le_refl _) (by omega))
theorem lay_4 {t : Nat → Nat → Int32} {kd nx : Nat → Nat} {go : Nat → Int32} {i fr k n Lz N : Nat} {v tv : Nat → Int32} {f u tf : Nat → Nat → Int32} {la : Nat → Option Nat} (hn : n ≤ 12) (hk : k < n) (h21 : v 21 = nI n) (hJ : J0 i fr v f u tf) (hS : S0 kd nx go i u la tf) (hL : tv 34 = nI Lz) (hL2 : Lz ≤ 37) (hkd : ∀ j, kd j = kdT tf j) (hnx : ∀ j, nx j = nxT tf j) (hiL : i + 3 ≤ Lz) (ho : t k 0 = nI 4) (hgo : go (i + 2) = t k 4) (hxa : ∃ c, c < 16 ∧ t k 1 = nI c) (e1 : ent tf i 2 11 (t k 1) k) (e2 : ent tf (i + 1) 0 0 (-1) k) (e3 : ent tf (i + 2) 0 0 (-1) k) : LFail v f tv tf (F_As_lay t k v f u la) (F_Mo_place_67 (N + 3) (nI fr) (nI i) tv tf) ∨ LGo kd nx go i v f tv tf (F_As_lay t k v f u la) (F_Mo_place_67 (N + 3) (nI fr) (nI i) tv tf) (i + 3) N (False) := by
  have c0 := c_le hn hk h21
  have eL : F_As_lay t k v f u la = Option.bind (F_As_place t (nI 2) (nI 11) (t k 1) v f u la) (fun z => K_g t k z.2.1 z.2.2.1 z.2.2.2.1 z.2.2.2.2) := by
    unfold F_As_lay
    rw [if_neg c0, st_operation hn hk h21, Option.bind_some, ho, if_neg (by decide), if_neg (by decide), if_neg (by decide), if_neg (by decide), if_pos (show nI 4 = (4 : Int32) from rfl), if_neg c0, st_a hn hk h21, Option.bind_some]
    rfl
  rw [eL]
  refine ord_c (N := N + 2) (N' := N) (i1 := i + 3) (nl := False) hn hk h21 hJ hS hL hL2 hkd hnx (by omega) e1 (by decide) (by decide) (by decide) hxa (K_g t k) (fun v1 q1 q2 q3 => K_g_not hn hk q1 q2 hJ.2.2.2.1 q3) ?_
  intro fr1 v1 f1 u1 la1 tf1 g1 g2 g3 g4 g5 g6 g7
  unfold K_g
  rw [if_neg (c_le hn hk g1), st_go hn hk g1, Option.bind_some]
  have h0 : ¬ tf 36 i = 0 := by rw [e1.2.1]; decide
  have h1 : tf 36 (i + 1) = 0 := e2.2.1
  have h2 : tf 36 (i + 2) = 0 := e3.2.1
  have k1 : kd (i + 1) = 0 := by
    rw [hkd]
    unfold kdT
    rw [h1, if_neg (by decide), if_neg (fun q => h0 q.2)]
  have k2 : nx (i + 1) = i + 1 + 2 := by
    rw [hnx]
    unfold nxT
    rw [if_pos h1]
  have k3 : kd (i + 1 + 1) = 2 := by
    rw [hkd]
    unfold kdT
    rw [h2, if_neg (by decide), if_pos ⟨rfl, h1⟩]
  have d2 := e2.mv g4.1
  have d3 := e3.mv g4.1
  rcases fork_ok (t := t) (tv := tv) (t k 4) (N + 1) (by omega) g2 g3 d2.1 d2.2.1 d3.1 d3.2.1 hL (by omega) (by omega) k1 k2 k3 hgo with ⟨p1, p2⟩ | ⟨fr2, v2, f2, u2, la2, tf2, p1, p2, p3, p4, p5, p6⟩
  · rw [p1, p2]
    exact Or.inl (mkFail g2 pF.rf rfl rfl)
  · rw [p1, p2]
    exact Or.inr ⟨fr2, v2, f2, u2, la2, tf2, N + 1, rfl, by omega, rfl, p3, p4, p5, fun q => q.elim, p6⟩
theorem LGo.nl {kd nx : Nat → Nat} {go : Nat → Int32} {v tv : Nat → Int32} {f tf : Nat → Nat → Int32} {C : Option ((Nat → Int32) × (Nat → Nat → Int32) × (Nat → Nat → Int32) × (Nat → Option Nat))} {M : Option (Int32 × (Nat → Int32) × (Nat → Nat → Int32))} {i i1 N : Nat} {nl nl' : Prop} (h : LGo kd nx go i v f tv tf C M i1 N nl) (e : nl ↔ nl') : LGo kd nx go i v f tv tf C M i1 N nl' := by
  obtain ⟨fr2, v2, f2, u2, la2, tf2, N2, a1, a2, a3, a4, a5, a6, a7⟩ := h
  exact ⟨fr2, v2, f2, u2, la2, tf2, N2, a1, a2, a3, a4, a5, a6, e.symm.trans a7⟩
theorem lay_ok {t : Nat → Nat → Int32} {kd nx : Nat → Nat} {go : Nat → Int32} {i fr k n Lz N : Nat} {v tv : Nat → Int32} {f u tf : Nat → Nat → Int32} {la : Nat → Option Nat} (hn : n ≤ 12) (hk : k < n) (h21 : v 21 = nI n) (hJ : J0 i fr v f u tf) (hS : S0 kd nx go i u la tf) (hL : tv 34 = nI Lz) (hL2 : Lz ≤ 37) (hkd : ∀ j, kd j = kdT tf j) (hnx : ∀ j, nx j = nxT tf j) {o : Nat} (hsz : i + szo o ≤ Lz) (hst : stOk (t k)) (ho : t k 0 = nI o) (ho7 : o < 7) (hgo : o = 4 → go (i + 2) = t k 4) (he : entP tf i k o (t k)) : LFail v f tv tf (F_As_lay t k v f u la) (F_Mo_place_67 (N + 3) (nI fr) (nI i) tv tf) ∨ LGo kd nx go i v f tv tf (F_As_lay t k v f u la) (F_Mo_place_67 (N + 3) (nI fr) (nI i) tv tf) (i + szo o) N (o = 6) := by
  obtain ⟨o', a, b, c, h1, ha, hb, hc, h5, xa, xb, xc, h9⟩ := hst
  have xa : ∃ c, c < 16 ∧ t k 1 = nI c := ⟨a, ha, xa⟩
  have xb : ∃ c, c < 16 ∧ t k 2 = nI c := ⟨b, hb, xb⟩
  have xc : ∃ c, c < 16 ∧ t k 3 = nI c := ⟨c, hc, xc⟩
  obtain ⟨w0, w1, w2, w3, w4, w5, w6⟩ := he
  have hq : o = 0 ∨ o = 1 ∨ o = 2 ∨ o = 3 ∨ o = 4 ∨ o = 5 ∨ o = 6 := by omega
  rcases hq with rfl | rfl | rfl | rfl | rfl | rfl | rfl
  · obtain ⟨e1, e2, e3⟩ := w0 rfl
    exact (lay_0 (N := N) hn hk h21 hJ hS hL hL2 hkd hnx hsz ho xa xb xc e1 e2 e3).imp id (fun h => h.nl (by decide))
  · obtain ⟨e1, e2, e3⟩ := w1 rfl
    exact (lay_1 (N := N) hn hk h21 hJ hS hL hL2 hkd hnx hsz ho xa xb xc e1 e2 e3).imp id (fun h => h.nl (by decide))
  · obtain ⟨e1, e3⟩ := w2 rfl
    exact (lay_2 (N := N) hn hk h21 hJ hS hL hL2 hkd hnx hsz ho xa xc e1 e3).imp id (fun h => h.nl (by decide))
  · exact (lay_3 (N := N) hn hk h21 hJ hS hL hL2 hkd hnx hsz ho xa (w3 rfl)).imp id (fun h => h.nl (by decide))
  · obtain ⟨e1, e2, e3⟩ := w4 rfl
    exact (lay_4 (N := N) hn hk h21 hJ hS hL hL2 hkd hnx hsz ho (hgo rfl) xa e1 e2 e3).imp id (fun h => h.nl (by decide))
  · exact (lay_5 (N := N) hn hk h21 hJ hS hL hL2 hkd hnx hsz ho xc (w5 rfl)).imp id (fun h => h.nl (by decide))
  · exact (lay_6 (N := N) hn hk h21 hJ hS hL hL2 hkd hnx hsz ho (w6 rfl)).imp id (fun h => h.nl (by decide))
