/-! ===== the component's queries of regions, coverage, consistency ===== -/
/-- the small numbers' cache -/
def IC (G : tG) (D : Nat → Prop) (h : tAH) : Prop := D (G.1 12) ∧ ∃ b kd f, h (G.1 12) = some (b, kd, .inr (256, .inr (.inr (.inr (.inr f))))) ∧ 4 ≤ kd ∧ ∀ v : Nat, v < 65 → ∃ e b', f (v + 128) = some e ∧ D e ∧ h e = some (b', 12, .inl [.int (iI (v : Int))])
theorem IC.on {G : tG} {D : Nat → Prop} {h h' : tAH} (hh : ∀ q, D q → h' q = h q) (H : IC G D h) : IC G D h' := by
  obtain ⟨d, b, kd, f, e, k, e2⟩ := H
  refine ⟨d, b, kd, f, (hh _ d).trans e, k, fun v hv => ?_⟩
  obtain ⟨q, b', f1, f2, f3⟩ := e2 v hv
  exact ⟨q, b', f1, f2, (hh _ f2).trans f3⟩
theorem IC.lo {G : tG} {D : Nat → Prop} {h h' : tAH} {n : Nat} (hh : ∀ q, q < n → h' q = h q) (hn : ∀ q e, h q = some e → q < n) (H : IC G D h) : IC G D h' := by
  obtain ⟨d, b, kd, f, e, k, e2⟩ := H
  refine ⟨d, b, kd, f, (hh _ (hn _ _ e)).trans e, k, fun v hv => ?_⟩
  obtain ⟨q, b', f1, f2, f3⟩ := e2 v hv
  exact ⟨q, b', f1, f2, (hh _ (hn _ _ f3)).trans f3⟩
section QRG
variable {G : tG} {D N : Nat → Prop} {hs : tHS} {x sv a ia ow dq sa ea hd : Nat} {gs : Nat → Nat} {fs : Nat → Option Nat} {fi : Nat → Int} {ar : Nat → Nat → Int} {L : Nat → Nat}
theorem hR_ex {hs : tHS} {a : Nat} {R S Q : Nat → Int} {c : Int} (hF : Fi hs) : Ex 4 197 hs (hR hs.2.1 a R S Q c hs.1, hs.2.1 + 4, hs.2.2 + 197) := by
  refine ⟨fun q hq _ => hR_g hq, ⟨Nat.le_add_right _ _, Nat.le_refl _⟩, ⟨Nat.le_add_right _ _, Nat.le_refl _⟩, Fi.hr hF⟩
theorem XC.g1a {e : tEnt} {k : Nat} (hF : Fi hs) (X : XC G D N hs.1 x sv a ia ow dq sa ea hd gs fs fi ar) : gfR (t_al hs e k).1 (.ref x) 0 1 = some (some a) := gfR_at (k := 1) (q := a) ((t_up_n (Nat.ne_of_lt (hF.lt X.ob))).trans X.ob) rfl
theorem q_regionCount (X : XC G D N hs.1 x sv a ia ow dq sa ea hd gs fs fi ar) (hF : Fi hs) (md : Md fi ar) (lf : Lf (ar 0) L) : CQ (t_Ev (t_pg G) t_hd Y_X1_regionCount 0 ([some (.ref x)], [], hs)) hs (.inr (rgN (ar 0) L)) := by
  obtain ⟨R, S, Q, c, e, I⟩ := c_init hF X.gm md.w.bd.dm md.w.rb lf
  refine CQ.ex ?_ (hR_ex hF (a := a) (R := R) (S := S) (Q := Q) (c := c)) (by decide) (by decide)
  rw [b_X1_regionCount_0, X.g1a hF, Option.bind_some, va_rf_some, e, bV_rV, rK, Option.bind_some, b_X11_count_0, rg4, Option.bind_some, rI_of, bI_rI, I.i1, ← rgN_rk md.w.bd.dm]
  rfl
theorem q_meanRegion (X : XC G D N hs.1 x sv a ia ow dq sa ea hd gs fs fi ar) (hF : Fi hs) (md : Md fi ar) (lf : Lf (ar 0) L) : ∃ hs', t_Ev (t_pg G) t_hd Y_X1_meanRegion 0 ([some (.ref x), none], [], hs) = rF (mnF (emA (ar 0)) (rgN (ar 0) L)) hs' ∧ Ex 1400 5400 hs hs' := by
  have hD := md.w.bd.dm
  have q := rgN_b (L := L) hD
  obtain ⟨hs', e, m⟩ := q_regionCount X hF md lf
  refine ⟨hs', ?_, m⟩
  have X' := X.ex hF m md.o199
  rw [b_X1_meanRegion_0, X.kx, Option.bind_some, e, bI_rI]
  simp (disch := omega) only [iI_inj]
  unfold mnF
  by_cases c : rgN (ar 0) L = 0
  · rw [if_pos c, if_pos c]; rfl
  · rw [if_neg c, if_neg c, X'.kx, Option.bind_some, c_emptyCells X' hD md.w.rb, bI_rI, if_pos (mn_ok hD c).1]
    rfl
theorem q_regionSize (X : XC G D N hs.1 x sv a ia ow dq sa ea hd gs fs fi ar) (hF : Fi hs) (md : Md fi ar) (lf : Lf (ar 0) L) {u w : Int} (h1 : InR u) (h2 : InR w) : CQ (t_Ev (t_pg G) t_hd Y_X1_regionSize 0 ([some (.ref x), some (.int (iI u)), some (.int (iI w))], [], hs)) hs (if inB (ar 0) u w = true then .inr (szB (ar 0) L u w) else .inl 17) := by
  have hD := md.w.bd.dm
  rw [b_X1_regionSize_0, X.kx, Option.bind_some, c_checkCell X md h1 h2]
  cases c : inB (ar 0) u w with
  | false => exact CQ.thr hF rfl
  | true =>
    have hi := inB_7 hD c
    obtain ⟨R, S, Q, n, e, I⟩ := c_init hF X.gm hD md.w.rb lf
    refine CQ.ex ?_ (hR_ex hF (a := a) (R := R) (S := S) (Q := Q) (c := n)) (by decide) (by decide)
    have H' : GR G D D (hR hs.2.1 a R S Q n hs.1, hs.2.1 + 4, hs.2.2 + 197).1 a (ar 0) 2 := X.gm.hr hF
    have rb := I.rb lf (8 * w + u).toNat (by omega)
    rw [if_pos rfl, bV_rV, X.g1a hF, Option.bind_some, va_rf_some, e, bV_rV, rK, Option.bind_some, b_X11_sizeAt_0]
    simp only [Option.bind_some, va_rf_some, va_rf_none, bI_rI, bI_rB, bV_rV, bB_0, bB_1, iI_add, iI_sub, iI_mul, iI_neg, rI_of, rV_of, Int.reduceToNat, Int.neg_neg, rg1, rg0]
    rw [H'.k, Option.bind_some, c_indexOf, bI_rI, show w * 8 + u = 8 * w + u by omega, rl1 (by omega) (by omega), Option.bind_some]
    simp (disch := omega) only [iI_inj]
    by_cases he : emB (ar 0) u w = true
    · have cb : rk (ar 0) L 64 ≤ 64 := (rk_b (s := ar 0) (L := L) (p := 64)).2
      have i1 := I.i1
      obtain ⟨s1, s2, s3, s4⟩ := szB_S hD lf I (x := u) (y := w) (by omega) (by omega) he
      rw [if_neg (by omega), rg2, Option.bind_some, va_rf_some, rl2 (by omega) (by rw [s4]; omega), Option.bind_some, s4, ← s1]
      rfl
    · have c0 : cI (ar 0) u w ≠ 0 := fun z => he (emB_iff.mpr ⟨c, z⟩)
      have r1 : R (8 * w + u).toNat = -1 := by
        rw [I.i2 _ (by omega), if_neg fun z => he (by have := z.1; rw [emQ_at (by omega) (by omega)] at this; exact this)]
      rw [if_pos r1]
      unfold szB
      rw [if_neg c0]
      rfl
theorem q_coverage (X : XC G D N hs.1 x sv a ia ow dq sa ea hd gs fs fi ar) (md : Md fi ar) : t_Ev (t_pg G) t_hd Y_X1_coverage 0 ([some (.ref x), none], [], hs) = rD (cvD (ar 0)) hs := by
  have hD := md.w.bd.dm
  have hB := md.w.rb
  have q := cw_b md.w.bd
  have ca := cw_all hD hB
  have ec : t_Ev (t_pg G) t_hd Y_X1_coveredCells 0 ([some (.ref x)], [], hs) = rI (cvN (ar 0)) hs := by
    rw [b_X1_coveredCells_0]
    simp only [Option.bind_some, va_rf_some, va_rf_none, bI_rI, bI_rB, bV_rV, bB_0, bB_1, iI_add, iI_sub, iI_mul, iI_neg, rI_of, rV_of, Int.reduceToNat, Int.neg_neg, X.g1, X.gm.i1, X.gm.i2, X.gm.k, c_cellsWith X.gm hD (fun t h0 h1 => enc_m1 h0 h1) hB, c_cellsWith X.gm hD (v := 1) (fun t h0 h1 => enc_m2 ⟨h0, h1⟩) hB]
    exact rI_cg (by omega)
  rw [b_X1_coverage_0]
  simp only [Option.bind_some, va_rf_some, va_rf_none, bI_rI, bI_rB, bV_rV, bB_0, bB_1, iI_add, iI_sub, iI_mul, iI_neg, rI_of, rV_of, Int.reduceToNat, Int.neg_neg, X.g1, X.gm.i1, X.gm.i2, X.gm.k, X.kx, c_cellsWith X.gm hD (v := 1) (fun t h0 h1 => enc_m2 ⟨h0, h1⟩) hB, ec]
  simp (disch := omega) only [iI_inj]
  unfold cvD
  by_cases c : ar 0 0 * ar 0 1 - cwN (ar 0) 1 = 0
  · rw [if_pos c, if_pos c]; rfl
  · rw [if_neg c, if_neg c, if_pos (cvD_ok md.w.bd c)]; rfl
theorem c_int {v : Int} {h : tHS} (C : IC G D h.1) (h1 : 0 ≤ v ∧ v ≤ 64) : ∃ e b', t_Ev (t_pg G) t_hd Y_J17_valueOf 0 ([some (.int (iI v))], [], h) = some (.inl (some (.ref e)), h) ∧ h.1 e = some (b', 12, .inl [.int (iI v)]) := by
  obtain ⟨d, b, kd, f, e1, k, e2⟩ := C
  obtain ⟨q, b', f1, f2, f3⟩ := e2 v.toNat (by omega)
  refine ⟨q, b', ?_, by rw [f3, Int.toNat_of_nonneg h1.1]⟩
  rw [b_J17_valueOf_0]
  simp (disch := omega) only [iI_lt, iI_add]
  rw [if_neg (by omega), if_neg (by omega), ldR_at e1 k (by omega) (by omega) (by decide), Option.bind_some, show (v + 128).toNat = v.toNat + 128 by omega, f1]
  rfl
/-- the walker behind the regions -/
def hW (n k : Nat) (g : tAH) : tAH := t_up g (n + 4) (true, 8, .inl [.int (iI (k : Int)), .ref n])
theorem c_lr {n a c : Nat} {R S Q : Nat → Int} {g : tAH} {z : Nat × Nat} {v0 : Option Value} (hc : c ≤ 64) (hS : ∀ j, j < c → 0 ≤ S j ∧ S j ≤ 64) (C : ∀ k, IC G D (hW n k (hR n a R S Q c g))) : ∃ u, t_Ev (t_pg G) t_hd Y_X1_largestRegion 17 ([v0, some (.int (iI 0)), some (.ref (n + 4)), none], [], (hW n 0 (hR n a R S Q c g), z)) = rI (mxS S c) (hW n c (hR n a R S Q c g), z) ∧ u = (none : Option Value) := by
  have bd : ∀ j, j ≤ c → 0 ≤ mxS S j ∧ mxS S j ≤ 64 := fun j hj => fd_ge (P := fun b => 0 ≤ b ∧ b ≤ 64) (fun k hk a ha => by have := hS k (by omega); omega) (by omega)
  have g0 : ∀ k, hW n k (hR n a R S Q c g) (n + 4) = some (true, 8, .inl [.int (iI (k : Int)), .ref n]) := fun k => t_up_s
  have gn : ∀ k, hW n k (hR n a R S Q c g) n = hR n a R S Q c g n := fun k => t_up_n (by omega)
  have g2 : ∀ k, hW n k (hR n a R S Q c g) (n + 2) = hR n a R S Q c g (n + 2) := fun k => t_up_n (by omega)
  have hN : ∀ k, k ≤ c → t_Ev (t_pg G) t_hd Y_X12_hasNext 0 ([some (.ref (n + 4))], [], (hW n k (hR n a R S Q c g), z)) = rB (decide ((k : Int) < c)) (hW n k (hR n a R S Q c g), z) := fun k hk => by
    rw [b_X12_hasNext_0]
    simp (disch := omega) only [Option.bind_some, va_rf_some, va_rf_none, bI_rI, bI_rB, bV_rV, bB_0, bB_1, iI_add, iI_sub, iI_mul, iI_neg, rI_of, rV_of, Int.reduceToNat, Int.neg_neg, gfI_at (k := 0) (x := iI (k : Int)) (g0 k) rfl, gfR_at (k := 1) (q := n) (g0 k) rfl, gfI_at (k := 4) (x := iI (c : Int)) ((gn k).trans hR_0) rfl, iI_lt]
    exact rB_dec
  have nx : ∀ k, k < c → ∃ e b', t_Ev (t_pg G) t_hd Y_X12_next 0 ([some (.ref (n + 4))], [], (hW n k (hR n a R S Q c g), z)) = rR (some e) (hW n (k + 1) (hR n a R S Q c g), z) ∧ hW n (k + 1) (hR n a R S Q c g) e = some (b', 12, .inl [.int (iI (S k))]) := fun k hk => by
    obtain ⟨e, b', e1, e2⟩ := c_int (h := (hW n (k + 1) (hR n a R S Q c g), z)) (C (k + 1)) (hS k hk)
    refine ⟨e, b', ?_, e2⟩
    have w : pfV (hW n k (hR n a R S Q c g)) (.ref (n + 4)) 8 0 (.int (iI (k : Int) + iI 1)) = some (hW n (k + 1) (hR n a R S Q c g)) := by
      rw [pf_at (g0 k) (Nat.le_of_ble_eq_true rfl)]
      refine congrArg some ?_
      unfold hW
      rw [t_up_up, iI_add]
      rfl
    rw [b_X12_next_0, kN_at (g0 k), Option.bind_some, b_X12_next_2_0, gfI_at (k := 0) (x := iI (k : Int)) (g0 k) rfl, Option.bind_some, w, Option.bind_some, gfR_at (k := 1) (q := n) (g0 (k + 1)) rfl, Option.bind_some, va_rf_some, gfR_at (k := 2) (q := n + 2) ((gn (k + 1)).trans hR_0) rfl, Option.bind_some, gfI_at (k := 0) (x := iI ((k + 1 : Nat) : Int)) (g0 (k + 1)) rfl, Option.bind_some, va_rf_some, iI_sub, show ((k + 1 : Nat) : Int) - 1 = k by omega, ldI_at ((g2 (k + 1)).trans hR_2) (by decide) (by omega) (by omega) (by decide), Option.bind_some, Int.toNat_natCast, e1]
    rfl
  obtain ⟨u, -, e⟩ := lp_ik (N := c) (σ := Option Value) (I := fun _ _ => True) (F := fun k u => t_Ev (t_pg G) t_hd Y_X1_largestRegion 17 ([v0, some (.int (iI (mxS S k))), some (.ref (n + 4)), u], [], (hW n k (hR n a R S Q c g), z))) (fun k hk u _ => by
    obtain ⟨e, b', e1, e2⟩ := nx k hk
    have b1 := bd k (by omega)
    have b2 := hS k hk
    refine ⟨some (.int (iI (S k))), trivial, ?_⟩
    rw [b_X1_largestRegion_17, kN_at (g0 k), Option.bind_some, hN k (by omega), bI_rB]
    simp only [bB_0]
    rw [if_neg (by rw [decide_eq_true (by omega)]; decide), kN_at (g0 k), Option.bind_some, e1, bR_rR, va_rf_some, isK_at e2, Option.bind_some, va_rf_some, kN_at e2, Option.bind_some, b_J17_intValue_0, gfI_at (k := 0) (x := iI (S k)) e2 rfl, Option.bind_some, rI_of, bI_rI, e_max (by omega) (by omega) (by omega) (by omega), bI_rI]
    rfl) none trivial
  refine ⟨none, Eq.trans e ?_, rfl⟩
  try dsimp only
  rw [b_X1_largestRegion_17, kN_at (g0 c), Option.bind_some, hN c (Nat.le_refl c), bI_rB]
  simp only [bB_0]
  rw [if_pos (decide_eq_false (by omega))]
  rfl
theorem q_largestRegion (X : XC G D N hs.1 x sv a ia ow dq sa ea hd gs fs fi ar) (hF : Fi hs) (md : Md fi ar) (lf : Lf (ar 0) L) (C : IC G D hs.1) : CQ (t_Ev (t_pg G) t_hd Y_X1_largestRegion 0 ([some (.ref x), none, none, none], [], hs)) hs (.inr (rgM (ar 0) L)) := by
  have hD := md.w.bd.dm
  obtain ⟨R, S, Q, c, e, I⟩ := c_init hF X.gm hD md.w.rb lf
  have cb : rk (ar 0) L 64 ≤ 64 := (rk_b (s := ar 0) (L := L) (p := 64)).2
  have c0 : 0 ≤ rk (ar 0) L 64 := (rk_b (s := ar 0) (L := L) (p := 64)).1
  have i1 := I.i1
  obtain ⟨c', hc'⟩ : ∃ c' : Nat, c = (c' : Int) := ⟨c.toNat, by omega⟩
  subst hc'
  have m4 := hR_ex hF (a := a) (R := R) (S := S) (Q := Q) (c := (c' : Int))
  have CC : ∀ k, IC G D (hW hs.2.1 k (hR hs.2.1 a R S Q c' hs.1)) := fun k => C.lo (n := hs.2.1) (fun q hq => (t_up_n (by omega)).trans (hR_g hq)) fun q e h => hF.lt h
  have hS : ∀ j, j < c' → 0 ≤ S j ∧ S j ≤ 64 := fun j hj => by
    obtain ⟨q, h1, ⟨h2, h3⟩, h4⟩ := rk_ex (s := ar 0) (L := L) (j := j) (P := 64) (by omega)
    have := I.i3 q h1 h2 h3 h1
    rw [h4, Int.toNat_natCast] at this
    rw [this]
    refine ⟨sm_ge fun _ _ => bB_ge, ?_⟩
    have : szF L q ≤ ((64 : Nat) : Int) * 1 := sm_le fun _ _ => bB_le
    omega
  obtain ⟨u, e2, -⟩ := c_lr (G := G) (n := hs.2.1) (a := a) (c := c') (R := R) (S := S) (Q := Q) (g := hs.1) (z := (hs.2.1 + 5, hs.2.2 + 199)) (v0 := some (.ref x)) (by omega) hS CC
  have mx := mxS_rg hD lf I
  rw [Int.toNat_natCast] at mx
  rw [mx] at e2
  refine CQ.ex (hs' := (hW hs.2.1 c' (hR hs.2.1 a R S Q c' hs.1), hs.2.1 + 5, hs.2.2 + 199)) (c := 5) (d := 199) ?_ ?_ (by decide) (by decide)
  · rw [b_X1_largestRegion_0, X.g1a hF, Option.bind_some, va_rf_some, e, bV_rV, rK, Option.bind_some, b_X11_iterator_0, b_X12_init_0]
    refine Eq.trans ?_ e2
    simp only [t_al]
    rw [pf_at t_up_s (Nat.le_of_ble_eq_true rfl), Option.bind_some, t_up_up]
    rfl
  · have := m4.alM (e := (true, 8, .inl [.int (iI (c' : Int)), .ref hs.2.1])) (n := 2)
    exact this
theorem q_inconsistencies (X : XC G D N hs.1 x sv a ia ow dq sa ea hd gs fs fi ar) (hF : Fi hs) (md : Md fi ar) (C : CH G D hs.1) : CQ (t_Ev (t_pg G) t_hd Y_X1_inconsistencies 0 ([some (.ref x), none, none, none, none, none], [], hs)) hs (.inr 0) := by
  have hD := md.w.bd.dm
  have hB := md.w.rb
  have np := md.w.bd.np
  have hn := tn_of np.1
  have sz := md.w.bd.cv
  have sum := md.w.sc.sum
  have ca := cw_all hD hB
  have ec : t_Ev (t_pg G) t_hd Y_X1_coveredCells 0 ([some (.ref x)], [], hs) = rI (cvN (ar 0)) hs := by
    rw [b_X1_coveredCells_0]
    simp only [Option.bind_some, va_rf_some, va_rf_none, bI_rI, bI_rB, bV_rV, bB_0, bB_1, iI_add, iI_sub, iI_mul, iI_neg, rI_of, rV_of, Int.reduceToNat, Int.neg_neg, X.g1, X.gm.i1, X.gm.i2, X.gm.k, c_cellsWith X.gm hD (fun t h0 h1 => enc_m1 h0 h1) hB, c_cellsWith X.gm hD (v := 1) (fun t h0 h1 => enc_m2 ⟨h0, h1⟩) hB]
    exact rI_cg (by omega)
  obtain ⟨p0, b0, su0, nm0, f0, h01, h02, h03, -⟩ := X.gm.pl (p := 0) (by decide) (by decide) (by decide)
  obtain ⟨p1, b1, su1, nm1, f1, h11, h12, h13, -⟩ := X.gm.pl (p := 1) (by decide) (by decide) (by decide)
  refine CQ.ret hF ?_
  obtain ⟨u, -, e⟩ := lp_ik (N := (ar 0 4).toNat) (σ := Option Value) (I := fun _ _ => True) (F := fun k u => t_Ev (t_pg G) t_hd Y_X1_inconsistencies 36 ([some (.ref x), some (.int (iI (ptN (ar 0) - sm (fun k => ar 0 (pcI k 5)) k))), some (.int (iI (szN (ar 0) - sm (fun k => (shN (ar 0 (pcI k 0)) : Int)) k))), some (.int (iI 0)), some (.int (iI (k : Int))), u], [], hs)) (fun k hk u _ => by
    obtain ⟨qa, b, q, g1, g2, g3, P⟩ := X.gm.pc (k := (k : Int)) (by omega) (by omega) np.2
    rw [Int.toNat_natCast] at g3 P
    have pc := md.w.bd.pc k (by omega)
    have pd := md.w.bd.pd k (by omega)
    have cr := crs_pc md.w (k := k) (by omega)
    refine ⟨some (.ref b), trivial, ?_⟩
    rw [b_X1_inconsistencies_36]
    simp (disch := omega) only [Option.bind_some, va_rf_some, va_rf_none, bI_rI, bI_rB, bV_rV, bB_0, bB_1, iI_add, iI_sub, iI_mul, iI_neg, rI_of, rV_of, Int.reduceToNat, Int.neg_neg, X.g1, X.gm.i8, iI_lt]
    rw [if_pos (show (k : Int) < ar 0 4 by omega), g1, Option.bind_some, va_rf_some, g2, Option.bind_some, va_rf_some, gfI_at (k := 2) (x := iI (ar 0 (pcI k 5))) g3 rfl, Option.bind_some, gfR_at (k := 0) (q := q) g3 rfl, Option.bind_some, va_rf_some, P.r0, Option.bind_some, va_rf_some, C.k pc.1.1 pc.1.2, Option.bind_some, c_cells C pc.1.1 pc.1.2, bI_rI, X.g1, Option.bind_some, gfR_at (k := 0) (q := q) g3 rfl, Option.bind_some, va_rf_some, X.gm.k, Option.bind_some, va_rf_some, c_crossesStrap X.gm C P pc.1.1 pc.1.2 pc.2.1.1 pc.2.1.2 (fun j hj => by have := inB_7 hD (pd j hj).1; omega), cr, bI_rB]
    simp only [bB_0, if_true, iI_sub, iI_add, sm]
    rw [show ptN (ar 0) - sm (fun k => ar 0 (pcI k 5)) k - ar 0 (pcI k 5) = ptN (ar 0) - (sm (fun k => ar 0 (pcI k 5)) k + ar 0 (pcI k 5)) by omega, show szN (ar 0) - sm (fun k => (shN (ar 0 (pcI k 0)) : Int)) k - (shN (ar 0 (pcI k 0)) : Int) = szN (ar 0) - (sm (fun k => (shN (ar 0 (pcI k 0)) : Int)) k + (shN (ar 0 (pcI k 0)) : Int)) by omega]
    rfl) none trivial
  rw [b_X1_inconsistencies_0, X.g1, Option.bind_some, va_rf_some, h01, Option.bind_some, va_rf_some, h02, Option.bind_some, va_rf_some, gfI_at (k := 3) (x := iI (ofS (ar 0) 0 0)) h03 rfl, Option.bind_some, Option.bind_some, va_rf_some, h11, Option.bind_some, va_rf_some, h12, Option.bind_some, va_rf_some, gfI_at (k := 3) (x := iI (ofS (ar 0) 1 0)) h13 rfl, Option.bind_some, X.kx, Option.bind_some, ec, bI_rI, iI_add, sum, sz]
  have e0 : t_Ev (t_pg G) t_hd Y_X1_inconsistencies 36 ([some (.ref x), some (.int (iI (ptN (ar 0)))), some (.int (iI (szN (ar 0)))), some (.int (iI 0)), some (.int (iI 0)), none], [], hs) = t_Ev (t_pg G) t_hd Y_X1_inconsistencies 36 ([some (.ref x), some (.int (iI (ptN (ar 0) - sm (fun k => ar 0 (pcI k 5)) 0))), some (.int (iI (szN (ar 0) - sm (fun k => (shN (ar 0 (pcI k 0)) : Int)) 0))), some (.int (iI 0)), some (.int (iI ((0 : Nat) : Int))), none], [], hs) := by
    simp only [sm, Int.sub_zero]
    (try rfl)
  refine e0.trans (Eq.trans e ?_)
  rw [b_X1_inconsistencies_36]
  simp (disch := omega) only [Option.bind_some, va_rf_some, va_rf_none, bI_rI, bI_rB, bV_rV, bB_0, bB_1, iI_add, iI_sub, iI_mul, iI_neg, rI_of, rV_of, Int.reduceToNat, Int.neg_neg, X.g1, X.gm.i8, iI_lt]
  rw [if_neg (by omega), show sm (fun k => ar 0 (pcI k 5)) (ar 0 4).toNat = ptN (ar 0) from rfl, show sm (fun k => (shN (ar 0 (pcI k 0)) : Int)) (ar 0 4).toNat = szN (ar 0) from rfl, Int.sub_self, Int.sub_self, e_abs (by decide) (by decide), bI_rI, e_abs (by decide) (by decide), bI_rI]
  rfl
end QRG
