/-! ===== the component writes its trunk ===== -/
/-- a cell's letter -/
def sgC (v : Int) : Int := if v = 0 then 46 else if v = 1 then 35 else if v - 2 < 26 then 97 + (v - 2) else 39 + (v - 2)
/-- the letters of all rows, and how many -/
def wtL (s : tRow) (j : Nat) : Int := if j % ((s 0).toNat + 1) = (s 0).toNat then 10 else sgC (cI s ((j % ((s 0).toNat + 1) : Nat) : Int) ((j / ((s 0).toNat + 1) : Nat) : Int))
def wtN (s : tRow) (y : Nat) : Nat := if y = 0 then 0 else y * ((s 0).toNat + 1) - 1
theorem wt_md {y c x : Nat} (h : x ≤ c) : (y * (c + 1) + x) % (c + 1) = x ∧ (y * (c + 1) + x) / (c + 1) = y := by
  constructor
  · rw [Nat.add_comm, Nat.add_mul_mod_self_right, Nat.mod_eq_of_lt (by omega)]
  · rw [Nat.add_comm, Nat.add_mul_div_right _ _ (by omega), Nat.div_eq_of_lt (by omega), Nat.zero_add]
theorem sgC_b {v : Int} (h0 : 0 ≤ v) (h1 : v ≤ 33) : 0 ≤ sgC v ∧ sgC v ≤ 127 := by unfold sgC; split <;> (try split) <;> (try split) <;> omega
theorem Mx.toEx {c d : Nat} {h0 h1 : tHS} (m : Mx (fun q => h0.2.1 ≤ q) c d h0 h1) : Ex c d h0 h1 := ⟨fun q hq _ => m.1 q hq (by omega), m.2⟩
section WT
variable {G : tG} {D N : Nat → Prop} {hs : tHS} {x sv a ia ow dq sa ea hd : Nat} {gs : Nat → Nat} {fs : Nat → Option Nat} {fi : Nat → Int} {ar : Nat → Nat → Int}
theorem c_signOf {h : tHS} {v : Int} {o : Option Value} (h0 : 0 ≤ v) (h1 : v ≤ 33) : t_Ev (t_pg G) t_hd Y_X1_signOf 0 ([o, some (.int (iI (enc v)))], [], h) = rI (sgC v) h := by
  rw [b_X1_signOf_0]
  simp only [enc_m1 h0 (show v ≤ 1000000 by omega), enc_m2 ⟨h0, show v ≤ 1000000 by omega⟩]
  unfold sgC
  by_cases c0 : v = 0
  · rw [if_pos c0, if_pos c0]; rfl
  rw [if_neg c0, if_neg c0]
  by_cases c1 : v = 1
  · rw [if_pos c1, if_pos c1]; rfl
  rw [if_neg c1, if_neg c1]
  have e : enc v = v - 2 := by unfold enc; rw [if_neg c0, if_neg c1]
  rw [e]
  simp (disch := omega) only [iI_lt, iI_add, iI_sub]
  by_cases c2 : v - 2 < 26
  · rw [if_pos c2, if_pos c2, chr16 (by omega) (by omega), if_pos (nar255 (by omega) (by omega)).2]
    rfl
  · rw [if_neg c2, if_neg c2, chr16 (by omega) (by omega), if_pos (nar255 (by omega) (by omega)).2]
    exact rI_cg (by omega)
theorem wt_ce (md : Md fi ar) {u w : Int} (hu : 0 ≤ u ∧ u ≤ 7) (hw : 0 ≤ w ∧ w ≤ 7) : 0 ≤ cI (ar 0) u w ∧ cI (ar 0) u w ≤ 33 := by
  have := md.w.bd.ce (33 + (8 * w + u)).toNat (by omega) (by omega)
  have np := md.w.bd.np
  unfold cI
  omega
theorem wtL_b (md : Md fi ar) {j : Nat} (hj : j / ((ar 0 0).toNat + 1) ≤ 7) : 0 ≤ wtL (ar 0) j ∧ wtL (ar 0) j ≤ 127 := by
  have d0 := md.w.bd.d0
  unfold wtL
  by_cases c : j % ((ar 0 0).toNat + 1) = (ar 0 0).toNat
  · rw [if_pos c]; decide
  · rw [if_neg c]
    have m := Nat.mod_lt j (show 0 < (ar 0 0).toNat + 1 by omega)
    generalize j % ((ar 0 0).toNat + 1) = q1 at c m ⊢
    generalize j / ((ar 0 0).toNat + 1) = q2 at hj ⊢
    have ce := wt_ce md (u := (q1 : Int)) (w := (q2 : Int)) (by omega) (by omega)
    exact sgC_b ce.1 ce.2
theorem wtL_at (md : Md fi ar) {y k : Nat} (hk : k ≤ (ar 0 0).toNat) : wtL (ar 0) (y * ((ar 0 0).toNat + 1) + k) = if k = (ar 0 0).toNat then 10 else sgC (cI (ar 0) k y) := by
  unfold wtL
  rw [(wt_md hk).1, (wt_md hk).2]
theorem wtL_ab (md : Md fi ar) {y k : Nat} (hy : y ≤ 7) (hk : k ≤ (ar 0 0).toNat) : 0 ≤ wtL (ar 0) (y * ((ar 0 0).toNat + 1) + k) ∧ wtL (ar 0) (y * ((ar 0 0).toNat + 1) + k) ≤ 127 := wtL_b md (by rw [(wt_md hk).2]; exact hy)
/-- one row -/
theorem c_wt40 {h0 : tHS} {b y P : Nat} (X : XC G D N h0.1 x sv a ia ow dq sa ea hd gs fs fi ar) (hF : Fi h0) (md : Md fi ar) (hz : h0.2.1 ≤ b) (hy : y ≤ 7) (hP : P = y * ((ar 0 0).toNat + 1)) {h1 : tHS} {v1 S1 e : Nat} (B : SB h1.1 b v1 S1 P (wtL (ar 0))) (hv : h0.2.1 ≤ v1) (m1 : Mx (fun q => h0.2.1 ≤ q) e (20 + 2 * S1) h0 h1) :
    ∃ h2 v2 S2, t_Ev (t_pg G) t_hd Y_X1_writeTrunk 40 ([some (.ref x), some (.ref b), some (.int (iI (y : Int))), some (.int (iI 0))], [], h1) = t_Ev (t_pg G) t_hd Y_X1_writeTrunk 10 ([some (.ref x), some (.ref b), some (.int (iI ((y : Int) + 1))), some (.int (iI (ar 0 0)))], [], h2) ∧ SB h2.1 b v2 S2 (P + (ar 0 0).toNat) (wtL (ar 0)) ∧ h0.2.1 ≤ v2 ∧ Mx (fun q => h0.2.1 ≤ q) (e + 8) (20 + 2 * S2) h0 h2 := by
  have d0 := md.w.bd.d0
  have hn := tn_of (a := ar 0 0) (by omega)
  have P63 : P ≤ 63 := by
    rw [hP]
    exact Nat.le_trans (Nat.mul_le_mul hy (show (ar 0 0).toNat + 1 ≤ 9 by omega)) (by decide)
  obtain ⟨⟨h2, v2, S2⟩, ⟨B2, hv2, m2⟩, lo⟩ := lp_ik (N := (ar 0 0).toNat) (σ := tHS × Nat × Nat) (I := fun k c => SB c.1.1 b c.2.1 c.2.2 (P + k) (wtL (ar 0)) ∧ h0.2.1 ≤ c.2.1 ∧ Mx (fun q => h0.2.1 ≤ q) (e + k) (20 + 2 * c.2.2) h0 c.1) (F := fun k c => t_Ev (t_pg G) t_hd Y_X1_writeTrunk 40 ([some (.ref x), some (.ref b), some (.int (iI (y : Int))), some (.int (iI (k : Int)))], [], c.1)) (fun k hk c hc => by
    obtain ⟨B, hv, m⟩ := hc
    have Xk := X.ex hF m.toEx md.o199
    have ce := wt_ce md (u := (k : Int)) (w := (y : Int)) (by omega) (by omega)
    have le : wtL (ar 0) (P + k) = sgC (cI (ar 0) k y) := by rw [hP, wtL_at md (by omega), if_neg (by omega)]
    have sz := B.sz
    obtain ⟨h', v', S', e', B', m', hv', q1, q2⟩ := c_sbApp (G := G) (z := h0.2.1) m.2.2.2 B (by omega) hz hv (by rw [le]; exact sgC_b ce.1 ce.2)
    rw [le] at e'
    have sl : 20 + 2 * c.2.2 + (if P + k < c.2.2 then 0 else S') ≤ 20 + 2 * S' := by
      by_cases c0 : P + k < c.2.2
      · rw [if_pos c0, q1 c0]; omega
      · rw [if_neg c0, q2 c0]; omega
    refine ⟨(h', v', S'), ⟨B', hv', (m.trans m').le (by omega) sl⟩, ?_⟩
    · try dsimp only
      rw [b_X1_writeTrunk_40, Xk.g1, Option.bind_some, va_rf_some, Xk.gm.i1, Option.bind_some]
      simp (disch := omega) only [iI_lt]
      rw [if_pos (by omega), Option.bind_some, va_rf_some, Xk.gm.k, Option.bind_some, c_cell Xk.gm (by omega) (by omega) (by omega) (by omega), bI_rI, Xk.kx, Option.bind_some, c_signOf ce.1 ce.2, bI_rI, kN_at B.c1, Option.bind_some, bR_ex e', iI_add]
      rfl) (h1, v1, S1) ⟨B, hv, m1⟩
  have X2 := X.ex hF m2.toEx md.o199
  refine ⟨h2, v2, S2, Eq.trans lo ?_, B2, hv2, m2.le (by omega) (Nat.le_refl _)⟩
  try dsimp only
  rw [b_X1_writeTrunk_40, X2.g1, Option.bind_some, va_rf_some, X2.gm.i1, Option.bind_some]
  simp (disch := omega) only [iI_lt]
  rw [if_neg (by omega), hn, iI_add]
theorem wtN_s {s : tRow} {k : Nat} : wtN s (k + 1) = k * ((s 0).toNat + 1) + (s 0).toNat := by
  unfold wtN
  rw [if_neg (Nat.succ_ne_zero k), Nat.add_mul, Nat.one_mul]
  omega
theorem c_writeTrunk (X : XC G D N hs.1 x sv a ia ow dq sa ea hd gs fs fi ar) (hF : Fi hs) (md : Md fi ar) (hDn : ∀ q, hs.2.1 ≤ q → D q) {D' : Nat → Prop} (W0 : WD D' hs.1 (G.1 13) []) (W1 : WD D' hs.1 (G.1 19) [10]) :
    CM G D N (t_Ev (t_pg G) t_hd Y_X1_writeTrunk 0 ([some (.ref x), none, none, none], [], hs)) hs x (.inr (wtN (ar 0) (ar 0 1).toNat)) (fU fi 14 (wtN (ar 0) (ar 0 1).toNat)) (aS ar 9 (wtL (ar 0))) := by
  have d0 := md.w.bd.d0
  have d1 := md.w.bd.d1
  have hn := tn_of (a := ar 0 1) (by omega)
  obtain ⟨h1, e1, B1, x1⟩ := c_sbNew (G := G) hF (wtL (ar 0))
  have W0' := W0.dm (D2 := fun q => q < hs.2.1) fun q e _ he => hF.lt he
  have W1' := W1.dm (D2 := fun q => q < hs.2.1) fun q e _ he => hF.lt he
  rw [b_X1_writeTrunk_0, e1, bV_rV]
  obtain ⟨⟨h2, v2, S2, u2⟩, ⟨B2, hv2, m2⟩, lo⟩ := lp_ik (N := (ar 0 1).toNat) (σ := tHS × Nat × Nat × Option Value) (I := fun k c => SB c.1.1 hs.2.1 c.2.1 c.2.2.1 (wtN (ar 0) k) (wtL (ar 0)) ∧ hs.2.1 ≤ c.2.1 ∧ Mx (fun q => hs.2.1 ≤ q) (2 + 9 * k) (20 + 2 * c.2.2.1) hs c.1) (F := fun k c => t_Ev (t_pg G) t_hd Y_X1_writeTrunk 10 ([some (.ref x), some (.ref hs.2.1), some (.int (iI (k : Int))), c.2.2.2], [], c.1)) (fun k hk c hc => by
    obtain ⟨B, hv, m⟩ := hc
    have Xk := X.ex hF m.toEx md.o199
    have sz := B.sz
    have z := m.2.1.1
    have P63 : k * ((ar 0 0).toNat + 1) ≤ 63 := Nat.le_trans (Nat.mul_le_mul (show k ≤ 7 by omega) (show (ar 0 0).toNat + 1 ≤ 9 by omega)) (by decide)
    have fin : ∀ (q l : Nat) (f' : Nat → Int), t_Ev (t_pg G) t_hd Y_X1_writeTrunk 10 ([some (.ref x), some (.ref hs.2.1), some (.int (iI (k : Int))), c.2.2.2], [], c.1) = (t_kN c.1.1 (.ref hs.2.1) 10).bind (fun a_3 => bndR (t_Ev (t_pg G) t_hd Y_J13_append_3 0 ([some (.ref a_3), some (.ref q)], [], c.1)) (fun o_5 hs_4 => t_Ev (t_pg G) t_hd Y_X1_writeTrunk 40 ([some (.ref x), some (.ref hs.2.1), some (.int (iI (k : Int))), some (.int (iI 0))], [], hs_4)) tX) → (l = 0 ∨ l = 1) → wtN (ar 0) k + l = k * ((ar 0 0).toNat + 1) → ST (fun q => q < hs.2.1) c.1.1 q l f' → (∀ j, j < l → f' j = wtL (ar 0) (wtN (ar 0) k + j)) → (∀ j, j < l → 0 ≤ wtL (ar 0) (wtN (ar 0) k + j) ∧ wtL (ar 0) (wtN (ar 0) k + j) ≤ 127) → (l = 0 → wtN (ar 0) k = 0) →
        ∃ c' : tHS × Nat × Nat × Option Value, (SB c'.1.1 hs.2.1 c'.2.1 c'.2.2.1 (wtN (ar 0) (k + 1)) (wtL (ar 0)) ∧ hs.2.1 ≤ c'.2.1 ∧ Mx (fun q => hs.2.1 ≤ q) (2 + 9 * (k + 1)) (20 + 2 * c'.2.2.1) hs c'.1) ∧ t_Ev (t_pg G) t_hd Y_X1_writeTrunk 10 ([some (.ref x), some (.ref hs.2.1), some (.int (iI (k : Int))), c.2.2.2], [], c.1) = t_Ev (t_pg G) t_hd Y_X1_writeTrunk 10 ([some (.ref x), some (.ref hs.2.1), some (.int (iI ((k + 1 : Nat) : Int))), c'.2.2.2], [], c'.1) := by
      intro q l f' eq hl hP Q he hf h0
      obtain ⟨h', v', S', e', B', m', hv', q1, q2⟩ := c_sbApS (G := G) (z := hs.2.1) m.2.2.2 B (by omega) hl (Nat.le_refl _) hv z Q (fun _ h => h) he hf
      rw [hP] at B'
      obtain ⟨h'', v'', S'', e'', B'', hv'', m''⟩ := c_wt40 (G := G) X hF md (Nat.le_refl _) (show k ≤ 7 by omega) rfl B' hv' (e := 3 + 9 * k) ((m.trans m').le (by omega) (by
        by_cases c0 : wtN (ar 0) k < c.2.2.1
        · rw [if_pos c0, q1 c0]; omega
        · have ns := B.ns
          rcases hl with hl | hl
          · have := h0 hl
            rw [if_neg c0, (q2 c0).2 hl]; omega
          · rw [if_neg c0, (q2 c0).1 hl]; omega))
      refine ⟨(h'', v'', S'', some (.int (iI (ar 0 0)))), ⟨by rw [wtN_s]; exact B'', hv'', m''.le (by omega) (Nat.le_refl _)⟩, ?_⟩
      rw [eq, kN_at B.c1, Option.bind_some, bR_ex e', e'']
      rfl
    have st : ∀ {q : Nat} {l : List Int}, WD (fun q => q < hs.2.1) hs.1 q l → ST (fun q => q < hs.2.1) c.1.1 q l.length (fun j => l.getD j 0) := fun W => (W.mm hF m fun q hq z => by omega).1
    by_cases c0 : k = 0
    · subst c0
      refine fin (G.1 13) 0 _ ?_ (Or.inl rfl) (by unfold wtN; rw [if_pos rfl, Nat.zero_mul]) (st W0') (fun j hj => absurd hj (Nat.not_lt_zero j)) (fun j hj => absurd hj (Nat.not_lt_zero j)) (fun _ => by unfold wtN; exact if_pos rfl)
      · rw [b_X1_writeTrunk_10, Xk.g1, Option.bind_some, va_rf_some, Xk.gm.i2, Option.bind_some]
        simp (disch := omega) only [iI_lt]
        rw [if_pos (by omega), if_neg (by decide)]
    · obtain ⟨k', rfl⟩ : ∃ k', k = k' + 1 := ⟨k - 1, by omega⟩
      have le : wtL (ar 0) (wtN (ar 0) (k' + 1)) = 10 := by rw [wtN_s, wtL_at md (Nat.le_refl _), if_pos rfl]
      refine fin (G.1 19) 1 _ ?_ (Or.inr rfl) (by rw [wtN_s, Nat.add_mul]; omega) (st W1') (fun j hj => ?_) (fun j hj => ?_) (fun h => by omega)
      · rw [b_X1_writeTrunk_10, Xk.g1, Option.bind_some, va_rf_some, Xk.gm.i2, Option.bind_some]
        simp (disch := omega) only [iI_lt]
        rw [if_pos (by omega), if_pos (by omega)]
      · rw [show j = 0 by omega, Nat.add_zero, le]; rfl
      · rw [show j = 0 by omega, Nat.add_zero, le]; decide) (h1, hs.2.1 + 1, 16, none) ⟨B1, Nat.le_succ _, (x1.mono (fun q z => absurd z (fun z => z)) (Nat.le_of_ble_eq_true rfl) (Nat.le_of_ble_eq_true rfl))⟩
  have X2 := X.ex hF m2.toEx md.o199
  have sz := B2.sz
  have P71 : wtN (ar 0) (ar 0 1).toNat ≤ 71 := by
    obtain ⟨k, hk⟩ : ∃ k, (ar 0 1).toNat = k + 1 := ⟨(ar 0 1).toNat - 1, by omega⟩
    rw [hk, wtN_s]
    have : k * ((ar 0 0).toNat + 1) ≤ 63 := Nat.le_trans (Nat.mul_le_mul (show k ≤ 7 by omega) (show (ar 0 0).toNat + 1 ≤ 9 by omega)) (by decide)
    omega
  obtain ⟨h3, e3, F3, x3⟩ := c_sbStr (G := G) m2.2.2.2 B2 (by omega)
  have z2 := m2.2.1.1
  have X3 := X2.ex m2.2.2.2 x3 md.o199
  have st3 := F3.st
  obtain ⟨vq, g, f1, ⟨b1, b2⟩, f2, f3⟩ := id F3
  have ky : Kp tgY h3.1 (t_up h3.1 x (true, 0, .inl [.ref sv, .ref a, .ref ia, .int (iI (fi 13)), .int (iI (fi 15)), .int (iI (fi 16)), .ref h2.2.1, .ref dq, .ref sa])) := Kp.up X3.ob rfl
  obtain ⟨n1, n2, n3, n4, n5, n6, n7, n8, n9, n10⟩ := X3.nq
  obtain ⟨q, i1, i2⟩ := X3.ip
  have A9 : aS ar 9 (wtL (ar 0)) 9 = wtL (ar 0) := aS_s
  have c14 : (fU fi 14 (wtN (ar 0) (ar 0 1).toNat : Int) 14).toNat = wtN (ar 0) (ar 0 1).toNat := by rw [fU_s, Int.toNat_natCast]
  have X4 : XC G D N (t_up h3.1 x (true, 0, .inl [.ref sv, .ref a, .ref ia, .int (iI (fi 13)), .int (iI (fi 15)), .int (iI (fi 16)), .ref h2.2.1, .ref dq, .ref sa])) x sv a ia h2.2.1 dq sa ea hd gs fs (fU fi 14 (wtN (ar 0) (ar 0 1).toNat)) (aS ar 9 (wtL (ar 0))) := by
    refine ⟨t_up_s.trans rfl, X3.sh.kp ky.yg, X3.gm.kp ky.yg, ⟨q, (t_up_n n1.symm).trans i1, i2⟩, ?_, X3.dk.cg (t_up_n n2.symm) (t_up_n n3.symm), fun k hk => (X3.kg k hk).kp ky.yg, (t_up_n n4.symm).trans X3.sg, fun k hk => ⟨fun e => ?_, (X3.sl k hk).2⟩, X3.nx⟩
    · rw [A9, c14]
      exact (st3.dm fun q _ hq _ => hDn q (by omega)).kpY ky (by omega)
    · obtain ⟨g, g1, g2⟩ := (X3.sl k hk).1 e
      exact ⟨g, g1, g2.kp ky.yg⟩
  have m4 : Mx N _ _ hs (t_up h3.1 x (true, 0, .inl [.ref sv, .ref a, .ref ia, .int (iI (fi 13)), .int (iI (fi 15)), .int (iI (fi 16)), .ref h2.2.1, .ref dq, .ref sa]), h3.2) := ((Ex.toN m2.toEx).trans x3.toN).upM X3.ob X3.nx.1
  refine ⟨_, ?_, X4.xo, m4.le (by omega) (by omega)⟩
  show _ = rI (wtN (ar 0) (ar 0 1).toNat : Int) _
  refine Eq.trans lo ?_
  try dsimp only
  rw [b_X1_writeTrunk_10, X2.g1, Option.bind_some, va_rf_some, X2.gm.i2, Option.bind_some]
  simp (disch := omega) only [iI_lt]
  rw [if_neg (by omega), kN_at B2.c1, Option.bind_some, bR_ex e3, va_rf_some, pf_at X3.ob (Nat.le_of_ble_eq_true rfl), Option.bind_some, gfR_at (k := 6) (q := h2.2.1) t_up_s rfl, Option.bind_some, va_rf_some]
  have f1' : t_up h3.1 x (true, 0, .inl [.ref sv, .ref a, .ref ia, .int (iI (fi 13)), .int (iI (fi 15)), .int (iI (fi 16)), .ref h2.2.1, .ref dq, .ref sa]) h2.2.1 = _ := ky _ _ f1 rfl
  have ln := c_sLen (G := G) (hs := (t_up h3.1 x (true, 0, .inl [.ref sv, .ref a, .ref ia, .int (iI (fi 13)), .int (iI (fi 15)), .int (iI (fi 16)), .ref h2.2.1, .ref dq, .ref sa]), h3.2)) (st3.kpY ky (by omega))
  rw [show ([.ref sv, .ref a, .ref ia, .int (iI (fi 13)), .int (iI (fi 15)), .int (iI (fi 16)), .ref ow, .ref dq, .ref sa] : List Value).set 6 (.ref h2.2.1) = [.ref sv, .ref a, .ref ia, .int (iI (fi 13)), .int (iI (fi 15)), .int (iI (fi 16)), .ref h2.2.1, .ref dq, .ref sa] from rfl]
  rw [kN_at f1', Option.bind_some, ln, bI_rI]
  rfl
end WT
