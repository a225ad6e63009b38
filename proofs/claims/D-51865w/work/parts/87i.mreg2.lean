/-! ===== regions: counted ===== -/
theorem Lf_eq {s : tRow} {L L' : Nat → Nat} (h : Lf s L) (h' : Lf s L') {q : Nat} (hq : q < 64) : L q = L' q := by
  have one : ∀ {L L' : Nat → Nat}, Lf s L → Lf s L' → L' q ≤ L q := fun {L L'} h h' => by
    have l1 := h.1.1 q hq
    have := (h.1.2 (fun p => L' p = L' q) (fun a b j => by rw [h'.2 a b j]) q hq).mpr rfl
    have l2 := h'.1.1 (L q) (by omega)
    omega
  exact Nat.le_antisymm (one h' h) (one h h')
def rgR (s : tRow) (L : Nat → Nat) (y : Nat) : Int := sm (fun x => bB (decide (cI s x y = 0) && decide (L (8 * y + x) = 8 * y + x))) (s 0).toNat
/-- how many regions -/
def rgN (s : tRow) (L : Nat → Nat) : Int := sm (fun y => rgR s L y) (s 1).toNat
def szR (s : tRow) (L : Nat → Nat) (q y : Nat) : Int := sm (fun x => bB (decide (cI s x y = 0) && decide (L (8 * y + x) = q))) (s 0).toNat
/-- how many cells bear a label -/
def szA (s : tRow) (L : Nat → Nat) (q : Nat) : Int := sm (fun y => szR s L q y) (s 1).toNat
def szB (s : tRow) (L : Nat → Nat) (x y : Int) : Int := if cI s x y = 0 then szA s L (L (8 * y + x).toNat) else 0
def rgM (s : tRow) (L : Nat → Nat) : Int := fd (fun y b => fd (fun x b => max b (szB s L x y)) (s 0).toNat b) (s 1).toNat 0
theorem szR_b {s : tRow} {L : Nat → Nat} {q y : Nat} (hD : Dm s) : 0 ≤ szR s L q y ∧ szR s L q y ≤ 8 := by
  have h0 := tn_of hD.1.1
  have d := hD.1
  refine ⟨sm_ge fun _ _ => bB_ge, ?_⟩
  have : szR s L q y ≤ ((s 0).toNat : Int) * 1 := sm_le fun _ _ => bB_le
  omega
theorem szA_b {s : tRow} {L : Nat → Nat} {q : Nat} (hD : Dm s) : 0 ≤ szA s L q ∧ szA s L q ≤ 64 := by
  have h0 := tn_of hD.2.1
  have d := hD.2
  refine ⟨sm_ge fun _ _ => (szR_b hD).1, ?_⟩
  have : szA s L q ≤ ((s 1).toNat : Int) * 8 := sm_le fun _ _ => (szR_b hD).2
  omega
theorem szB_b {s : tRow} {L : Nat → Nat} {x y : Int} (hD : Dm s) : 0 ≤ szB s L x y ∧ szB s L x y ≤ 64 := by
  unfold szB
  split
  · exact szA_b hD
  · omega
theorem rgR_b {s : tRow} {L : Nat → Nat} {y : Nat} (hD : Dm s) : 0 ≤ rgR s L y ∧ rgR s L y ≤ 8 := by
  have h0 := tn_of hD.1.1
  have d := hD.1
  refine ⟨sm_ge fun _ _ => bB_ge, ?_⟩
  have : rgR s L y ≤ ((s 0).toNat : Int) * 1 := sm_le fun _ _ => bB_le
  omega
theorem rgN_b {s : tRow} {L : Nat → Nat} (hD : Dm s) : 0 ≤ rgN s L ∧ rgN s L ≤ 64 := by
  have h0 := tn_of hD.2.1
  have d := hD.2
  refine ⟨sm_ge fun _ _ => (rgR_b hD).1, ?_⟩
  have : rgN s L ≤ ((s 1).toNat : Int) * 8 := sm_le fun _ _ => (rgR_b hD).2
  omega
/-- the same labels, the same counts -/
theorem sm2_congr {s : tRow} {P Q : Nat → Nat → Int} (hD : Dm s) (h : ∀ x y : Nat, x < 8 → y < 8 → P x y = Q x y) : sm (fun y => sm (fun x => P x y) (s 0).toNat) (s 1).toNat = sm (fun y => sm (fun x => Q x y) (s 0).toNat) (s 1).toNat := by
  have h0 := hD.1
  have h1 := hD.2
  exact sm_congr fun y hy => sm_congr fun x hx => h x y (by omega) (by omega)
theorem rgN_cg {s : tRow} {L L' : Nat → Nat} (hD : Dm s) (h : Lf s L) (h' : Lf s L') : rgN s L = rgN s L' := sm2_congr hD fun x y hx hy => by rw [Lf_eq h h' (by omega)]
theorem szA_cg {s : tRow} {L L' : Nat → Nat} {q : Nat} (hD : Dm s) (h : Lf s L) (h' : Lf s L') : szA s L q = szA s L' q := sm2_congr hD fun x y hx hy => by rw [Lf_eq h h' (by omega)]
theorem szB_cg {s : tRow} {L L' : Nat → Nat} {x y : Int} (hD : Dm s) (h : Lf s L) (h' : Lf s L') (h1 : 0 ≤ x ∧ x ≤ 7) (h2 : 0 ≤ y ∧ y ≤ 7) : szB s L x y = szB s L' x y := by
  unfold szB
  rw [Lf_eq h h' (by omega), szA_cg hD h h']
theorem rgM_cg {s : tRow} {L L' : Nat → Nat} (hD : Dm s) (h : Lf s L) (h' : Lf s L') : rgM s L = rgM s L' := by
  have h0 := hD.1
  have h1 := hD.2
  exact fd_congr fun y hy b => fd_congr fun x hx b => by rw [szB_cg hD h h' (by omega) (by omega)]
def mnF (a r : Int) : UInt32 := if r = 0 then FP.fconst0 else FP.fdiv (FP.i2f (iI a)) (FP.i2f (iI r))
section MRH
variable {G : tG} {m : Nat} {fi : Nat → Int} {ar : Nat → Nat → Int} {g : tAH} {z : Nat × Nat}
theorem e_sz19 (hD : Dm (ar 0)) (hB : RB (ar 0)) {L : Nat → Nat} (la : LA (ar 12) L) (lb : Lb (ar 0) L) {x y q : Int} {k : Nat} (h1 : 0 ≤ x ∧ x ≤ 7) (h2 : 0 ≤ y ∧ y ≤ 7) (hk : k ≤ 7) : t_Ev (t_pg G) t_hd Y_X5_sizeAt 19 ([some (.ref m), some (.int (iI x)), some (.int (iI y)), some (.int (iI q)), some (.int (iI k)), some (.int (iI 0))], [], (hM m fi ar g, z)) = t_Ev (t_pg G) t_hd Y_X5_sizeAt 5 ([some (.ref m), some (.int (iI x)), some (.int (iI y)), some (.int (iI (q + szR (ar 0) L (L (8 * y + x).toNat) k))), some (.int (iI ((k + 1 : Nat) : Int))), some (.int (iI (ar 0 0)))], [], (hM m fi ar g, z)) := by
  have h0 := tn_of hD.1.1
  have hD0 := hD.1
  have lo := lp_up (N := (ar 0 0).toNat) (F := fun j => t_Ev (t_pg G) t_hd Y_X5_sizeAt 19 ([some (.ref m), some (.int (iI x)), some (.int (iI y)), some (.int (iI (q + sm (fun j => bB (decide (cI (ar 0) j k = 0) && decide (L (8 * k + j) = L (8 * y + x).toNat))) j))), some (.int (iI k)), some (.int (iI (j : Int)))], [], (hM m fi ar g, z))) fun j hj => by
    have hc := hB.c j k
    have l1 := la (8 * k + j) (by omega)
    have l2 := la (8 * y + x).toNat (by omega)
    have hq : (8 * (k : Int) + j).toNat = 8 * k + j := by omega
    have b1 := lb.1 (8 * k + j) (by omega)
    have b2 := lb.1 (8 * y + x).toNat (by omega)
    rw [b_X5_sizeAt_19]
    simp (disch := omega) only [mK, mgI6, mgI7, mgI13, mgI14, mgI15, mgI16, mgI17, mgI18, mgI19, mgI20, mgI21, mgI22, mgI23, mgI24, mgI25, mgI26, mgI27, mgR0, mgR1, mgR2, mgR3, mgR4, mgR5, mgR8, mgR9, mgR10, mgR11, mgR12, Option.bind_some, va_rf_some, va_rf_none, bI_rI, bI_rB, bV_rV, bB_0, bB_1, iI_add, iI_sub, iI_mul, iI_neg, rI_of, rV_of, Int.reduceToNat, Int.neg_neg, mld0, iI_lt, sm]
    rw [if_pos (show (j : Int) < ar 0 0 by omega), e_cell (by omega) (by omega) (by omega) (by omega), bI_rI]
    simp (disch := omega) only [iI_inj]
    by_cases c : cI (ar 0) j k = 0
    · rw [if_pos c, decide_eq_true c, Bool.true_and]
      simp (disch := omega) only [Option.bind_some, va_rf_some, va_rf_none, bI_rI, bI_rB, bV_rV, bB_0, bB_1, iI_add, iI_sub, iI_mul, iI_neg, rI_of, rV_of, Int.reduceToNat, Int.neg_neg, e_at, mgR12, mld12]
      rw [hq, l1, l2]
      simp (disch := omega) only [iI_inj]
      by_cases c2 : L (8 * k + j) = L (8 * y + x).toNat
      · rw [if_pos (by rw [c2]), decide_eq_true c2, ← Int.add_assoc]; rfl
      · rw [if_neg (by omega), decide_eq_false c2, bB_f, Int.add_zero]; rfl
    · rw [if_neg c, decide_eq_false c, Bool.false_and, bB_f, Int.add_zero]; rfl
  dsimp only [sm] at lo
  rw [Int.add_zero] at lo
  refine Eq.trans lo ?_
  rw [b_X5_sizeAt_19]
  simp (disch := omega) only [mK, mgI6, mgI7, mgI13, mgI14, mgI15, mgI16, mgI17, mgI18, mgI19, mgI20, mgI21, mgI22, mgI23, mgI24, mgI25, mgI26, mgI27, mgR0, mgR1, mgR2, mgR3, mgR4, mgR5, mgR8, mgR9, mgR10, mgR11, mgR12, Option.bind_some, va_rf_some, va_rf_none, bI_rI, bI_rB, bV_rV, bB_0, bB_1, iI_add, iI_sub, iI_mul, iI_neg, rI_of, rV_of, Int.reduceToNat, Int.neg_neg, mld0, iI_lt]
  rw [if_neg (by omega), h0]
  rfl
theorem e_sizeAt (hD : Dm (ar 0)) (hB : RB (ar 0)) {L : Nat → Nat} (la : LA (ar 12) L) (lb : Lb (ar 0) L) {x y : Int} (h1 : 0 ≤ x ∧ x ≤ 7) (h2 : 0 ≤ y ∧ y ≤ 7) : t_Ev (t_pg G) t_hd Y_X5_sizeAt 0 ([some (.ref m), some (.int (iI x)), some (.int (iI y)), none, none, none], [], (hM m fi ar g, z)) = rI (szB (ar 0) L x y) (hM m fi ar g, z) := by
  have hn := tn_of hD.2.1
  have hD1 := hD.2
  have hc := hB.c x y
  have lo := lp_up (N := (ar 0 1).toNat) (F := fun k => t_Ev (t_pg G) t_hd Y_X5_sizeAt 5 ([some (.ref m), some (.int (iI x)), some (.int (iI y)), some (.int (iI (sm (fun k => szR (ar 0) L (L (8 * y + x).toNat) k) k))), some (.int (iI (k : Int))), (if k = 0 then none else some (.int (iI (ar 0 0))))], [], (hM m fi ar g, z))) fun k hk => by
    rw [b_X5_sizeAt_5]
    simp (disch := omega) only [mK, mgI6, mgI7, mgI13, mgI14, mgI15, mgI16, mgI17, mgI18, mgI19, mgI20, mgI21, mgI22, mgI23, mgI24, mgI25, mgI26, mgI27, mgR0, mgR1, mgR2, mgR3, mgR4, mgR5, mgR8, mgR9, mgR10, mgR11, mgR12, Option.bind_some, va_rf_some, va_rf_none, bI_rI, bI_rB, bV_rV, bB_0, bB_1, iI_add, iI_sub, iI_mul, iI_neg, rI_of, rV_of, Int.reduceToNat, Int.neg_neg, mld0, iI_lt]
    rw [if_pos (show (k : Int) < ar 0 1 by omega), e_sz19 hD hB la lb h1 h2 (by omega), if_neg (Nat.succ_ne_zero k)]
    rfl
  rw [b_X5_sizeAt_0]
  refine Eq.trans lo ?_
  try dsimp only
  rw [b_X5_sizeAt_5]
  simp (disch := omega) only [mK, mgI6, mgI7, mgI13, mgI14, mgI15, mgI16, mgI17, mgI18, mgI19, mgI20, mgI21, mgI22, mgI23, mgI24, mgI25, mgI26, mgI27, mgR0, mgR1, mgR2, mgR3, mgR4, mgR5, mgR8, mgR9, mgR10, mgR11, mgR12, Option.bind_some, va_rf_some, va_rf_none, bI_rI, bI_rB, bV_rV, bB_0, bB_1, iI_add, iI_sub, iI_mul, iI_neg, rI_of, rV_of, Int.reduceToNat, Int.neg_neg, mld0, iI_lt]
  rw [if_neg (by omega), e_cell h1.1 h1.2 h2.1 h2.2, bI_rI]
  simp (disch := omega) only [iI_inj]
  unfold szB
  by_cases c : cI (ar 0) x y = 0
  · rw [if_pos c, if_pos c]; rfl
  · rw [if_neg c, if_neg c]
theorem e_rg20 (hD : Dm (ar 0)) (hB : RB (ar 0)) {L : Nat → Nat} (la : LA (ar 12) L) (lb : Lb (ar 0) L) {q : Int} {k : Nat} (hk : k ≤ 7) : t_Ev (t_pg G) t_hd Y_X5_regions 20 ([some (.ref m), some (.int (iI q)), some (.int (iI k)), some (.int (iI 0))], [], (hM m fi ar g, z)) = t_Ev (t_pg G) t_hd Y_X5_regions 8 ([some (.ref m), some (.int (iI (q + rgR (ar 0) L k))), some (.int (iI ((k + 1 : Nat) : Int))), some (.int (iI (ar 0 0)))], [], (hM m fi ar g, z)) := by
  have h0 := tn_of hD.1.1
  have hD0 := hD.1
  have lo := lp_up (N := (ar 0 0).toNat) (F := fun j => t_Ev (t_pg G) t_hd Y_X5_regions 20 ([some (.ref m), some (.int (iI (q + sm (fun j => bB (decide (cI (ar 0) j k = 0) && decide (L (8 * k + j) = 8 * k + j))) j))), some (.int (iI k)), some (.int (iI (j : Int)))], [], (hM m fi ar g, z))) fun j hj => by
    have hc := hB.c j k
    have l1 := la (8 * k + j) (by omega)
    have hq : (8 * (k : Int) + j).toNat = 8 * k + j := by omega
    have b1 := lb.1 (8 * k + j) (by omega)
    rw [b_X5_regions_20]
    simp (disch := omega) only [mK, mgI6, mgI7, mgI13, mgI14, mgI15, mgI16, mgI17, mgI18, mgI19, mgI20, mgI21, mgI22, mgI23, mgI24, mgI25, mgI26, mgI27, mgR0, mgR1, mgR2, mgR3, mgR4, mgR5, mgR8, mgR9, mgR10, mgR11, mgR12, Option.bind_some, va_rf_some, va_rf_none, bI_rI, bI_rB, bV_rV, bB_0, bB_1, iI_add, iI_sub, iI_mul, iI_neg, rI_of, rV_of, Int.reduceToNat, Int.neg_neg, mld0, iI_lt, sm]
    rw [if_pos (show (j : Int) < ar 0 0 by omega), e_cell (by omega) (by omega) (by omega) (by omega), bI_rI]
    simp (disch := omega) only [iI_inj]
    by_cases c : cI (ar 0) j k = 0
    · rw [if_pos c, decide_eq_true c, Bool.true_and]
      simp (disch := omega) only [Option.bind_some, va_rf_some, va_rf_none, bI_rI, bI_rB, bV_rV, bB_0, bB_1, iI_add, iI_sub, iI_mul, iI_neg, rI_of, rV_of, Int.reduceToNat, Int.neg_neg, e_at, mgR12, mld12]
      rw [hq, l1]
      simp (disch := omega) only [iI_inj]
      by_cases c2 : L (8 * k + j) = 8 * k + j
      · rw [if_pos (by omega), decide_eq_true c2, ← Int.add_assoc]; rfl
      · rw [if_neg (by omega), decide_eq_false c2, bB_f, Int.add_zero]; rfl
    · rw [if_neg c, decide_eq_false c, Bool.false_and, bB_f, Int.add_zero]; rfl
  dsimp only [sm] at lo
  rw [Int.add_zero] at lo
  refine Eq.trans lo ?_
  rw [b_X5_regions_20]
  simp (disch := omega) only [mK, mgI6, mgI7, mgI13, mgI14, mgI15, mgI16, mgI17, mgI18, mgI19, mgI20, mgI21, mgI22, mgI23, mgI24, mgI25, mgI26, mgI27, mgR0, mgR1, mgR2, mgR3, mgR4, mgR5, mgR8, mgR9, mgR10, mgR11, mgR12, Option.bind_some, va_rf_some, va_rf_none, bI_rI, bI_rB, bV_rV, bB_0, bB_1, iI_add, iI_sub, iI_mul, iI_neg, rI_of, rV_of, Int.reduceToNat, Int.neg_neg, mld0, iI_lt]
  rw [if_neg (by omega), h0]
  rfl
theorem e_regions (hD : Dm (ar 0)) (hB : RB (ar 0)) {L : Nat → Nat} (lf : Lf (ar 0) L) : ∃ a2, t_Ev (t_pg G) t_hd Y_X5_regions 0 ([some (.ref m), none, none, none], [], (hM m fi ar g, z)) = rI (rgN (ar 0) L) (hM m fi a2 g, z) ∧ Sc [] [12] fi ar fi a2 := by
  have hn := tn_of hD.2.1
  have hD1 := hD.2
  obtain ⟨a2, L2, e2, s2, la, lf2⟩ := e_findRegions (G := G) (m := m) (fi := fi) (ar := ar) (g := g) (z := z) hD hB
  refine ⟨a2, ?_, s2⟩
  have hs : a2 0 = ar 0 := s2.2 0 (by decide)
  rw [rgN_cg hD lf lf2, b_X5_regions_0, mK, Option.bind_some, e2, bV_rV]
  have lo := lp_up (N := (ar 0 1).toNat) (F := fun k => t_Ev (t_pg G) t_hd Y_X5_regions 8 ([some (.ref m), some (.int (iI (sm (fun k => rgR (ar 0) L2 k) k))), some (.int (iI (k : Int))), (if k = 0 then none else some (.int (iI (ar 0 0))))], [], (hM m fi a2 g, z))) fun k hk => by
    rw [b_X5_regions_8]
    simp (disch := omega) only [mK, mgI6, mgI7, mgI13, mgI14, mgI15, mgI16, mgI17, mgI18, mgI19, mgI20, mgI21, mgI22, mgI23, mgI24, mgI25, mgI26, mgI27, mgR0, mgR1, mgR2, mgR3, mgR4, mgR5, mgR8, mgR9, mgR10, mgR11, mgR12, Option.bind_some, va_rf_some, va_rf_none, bI_rI, bI_rB, bV_rV, bB_0, bB_1, iI_add, iI_sub, iI_mul, iI_neg, rI_of, rV_of, Int.reduceToNat, Int.neg_neg, mld0, iI_lt, hs]
    rw [if_pos (show (k : Int) < ar 0 1 by omega), e_rg20 (by rw [hs]; exact hD) (by rw [hs]; exact hB) la (by rw [hs]; exact lf2.1) (by omega), if_neg (Nat.succ_ne_zero k), hs]
    rfl
  refine Eq.trans lo ?_
  try dsimp only
  rw [b_X5_regions_8]
  simp (disch := omega) only [mK, mgI6, mgI7, mgI13, mgI14, mgI15, mgI16, mgI17, mgI18, mgI19, mgI20, mgI21, mgI22, mgI23, mgI24, mgI25, mgI26, mgI27, mgR0, mgR1, mgR2, mgR3, mgR4, mgR5, mgR8, mgR9, mgR10, mgR11, mgR12, Option.bind_some, va_rf_some, va_rf_none, bI_rI, bI_rB, bV_rV, bB_0, bB_1, iI_add, iI_sub, iI_mul, iI_neg, rI_of, rV_of, Int.reduceToNat, Int.neg_neg, mld0, iI_lt, hs]
  rw [if_neg (by omega)]
  rfl
theorem Sc.r12 {f0 : Nat → Int} {a0 : Nat → Nat → Int} (h : Sc [] [12] fi ar f0 a0) : Sc QI QA fi ar f0 a0 := h.mono (by decide) (by decide)
theorem m_regionCount (md : Md fi ar) {kc : Nat → Int} {L : Nat → Nat} (lf : Lf (ar 0) L) : MQr m g z fi ar kc (t_Ev (t_pg G) t_hd Y_X5_regionCount 0 ([some (.ref m)], [], (hM m fi ar g, z))) (.inr (rgN (ar 0) L)) := by
  obtain ⟨a2, e2, s2⟩ := e_regions (G := G) (m := m) (fi := fi) (ar := ar) (g := g) (z := z) md.w.bd.dm md.w.rb lf
  refine MQr.v (fi' := fU fi 7 0) (ar' := a2) ?_ (s2.r12.fU (by decide)) fU_s
  rw [b_X5_regionCount_0, mK, Option.bind_some, e2, bI_rI, mK, Option.bind_some, e_told, bI_rI]
  rfl
theorem e_lr25 (hD : Dm (ar 0)) (hB : RB (ar 0)) {L : Nat → Nat} (la : LA (ar 12) L) (lb : Lb (ar 0) L) {q : Int} {k : Nat} (hk : k ≤ 7) (hq : 0 ≤ q ∧ q ≤ 64) : t_Ev (t_pg G) t_hd Y_X5_largestRegion 25 ([some (.ref m), some (.int (iI q)), some (.int (iI k)), some (.int (iI 0))], [], (hM m fi ar g, z)) = t_Ev (t_pg G) t_hd Y_X5_largestRegion 13 ([some (.ref m), some (.int (iI (fd (fun x b => max b (szB (ar 0) L x k)) (ar 0 0).toNat q))), some (.int (iI ((k + 1 : Nat) : Int))), some (.int (iI (ar 0 0)))], [], (hM m fi ar g, z)) ∧ 0 ≤ fd (fun x b => max b (szB (ar 0) L x k)) (ar 0 0).toNat q ∧ fd (fun x b => max b (szB (ar 0) L x k)) (ar 0 0).toNat q ≤ 64 := by
  have h0 := tn_of hD.1.1
  have hD0 := hD.1
  have bd : ∀ j, 0 ≤ fd (fun x b => max b (szB (ar 0) L x k)) j q ∧ fd (fun x b => max b (szB (ar 0) L x k)) j q ≤ 64 := fun j => fd_ge (P := fun b => 0 ≤ b ∧ b ≤ 64) (fun x _ a ha => by
    have := szB_b (L := L) (x := x) (y := k) hD
    omega) hq
  refine ⟨?_, bd _⟩
  have lo := lp_up (N := (ar 0 0).toNat) (F := fun j => t_Ev (t_pg G) t_hd Y_X5_largestRegion 25 ([some (.ref m), some (.int (iI (fd (fun x b => max b (szB (ar 0) L x k)) j q))), some (.int (iI k)), some (.int (iI (j : Int)))], [], (hM m fi ar g, z))) fun j hj => by
    have b := bd j
    have b2 := szB_b (L := L) (x := j) (y := k) hD
    rw [b_X5_largestRegion_25]
    simp (disch := omega) only [mK, mgI6, mgI7, mgI13, mgI14, mgI15, mgI16, mgI17, mgI18, mgI19, mgI20, mgI21, mgI22, mgI23, mgI24, mgI25, mgI26, mgI27, mgR0, mgR1, mgR2, mgR3, mgR4, mgR5, mgR8, mgR9, mgR10, mgR11, mgR12, Option.bind_some, va_rf_some, va_rf_none, bI_rI, bI_rB, bV_rV, bB_0, bB_1, iI_add, iI_sub, iI_mul, iI_neg, rI_of, rV_of, Int.reduceToNat, Int.neg_neg, mld0, iI_lt, fd]
    rw [if_pos (show (j : Int) < ar 0 0 by omega), e_sizeAt hD hB la lb (by omega) (by omega), bI_rI, e_max (by omega) (by omega) (by omega) (by omega), bI_rI]
    rfl
  refine Eq.trans lo ?_
  try dsimp only
  rw [b_X5_largestRegion_25]
  simp (disch := omega) only [mK, mgI6, mgI7, mgI13, mgI14, mgI15, mgI16, mgI17, mgI18, mgI19, mgI20, mgI21, mgI22, mgI23, mgI24, mgI25, mgI26, mgI27, mgR0, mgR1, mgR2, mgR3, mgR4, mgR5, mgR8, mgR9, mgR10, mgR11, mgR12, Option.bind_some, va_rf_some, va_rf_none, bI_rI, bI_rB, bV_rV, bB_0, bB_1, iI_add, iI_sub, iI_mul, iI_neg, rI_of, rV_of, Int.reduceToNat, Int.neg_neg, mld0, iI_lt]
  rw [if_neg (by omega), h0]
  rfl
theorem m_largestRegion (md : Md fi ar) {kc : Nat → Int} {L : Nat → Nat} (lf : Lf (ar 0) L) : MQr m g z fi ar kc (t_Ev (t_pg G) t_hd Y_X5_largestRegion 0 ([some (.ref m), none, none, none], [], (hM m fi ar g, z))) (.inr (rgM (ar 0) L)) := by
  have hD := md.w.bd.dm
  have hB := md.w.rb
  have hn := tn_of hD.2.1
  have hD1 := hD.2
  obtain ⟨a2, L2, e2, s2, la, lf2⟩ := e_findRegions (G := G) (m := m) (fi := fU fi 7 0) (ar := ar) (g := g) (z := z) hD hB
  refine MQr.v (fi' := fU fi 7 0) (ar' := a2) ?_ (Sc.r12 ⟨fun _ _ => rfl, s2.2⟩ |>.fU (by decide)) fU_s
  have hs : a2 0 = ar 0 := s2.2 0 (by decide)
  rw [rgM_cg hD lf lf2, b_X5_largestRegion_0, mpI7, Option.bind_some, mK, Option.bind_some, e2, bV_rV]
  obtain ⟨u', -, e⟩ := lp_ik (N := (ar 0 1).toNat) (σ := Option Value) (I := fun k _ => 0 ≤ fd (fun y b => fd (fun x b => max b (szB (ar 0) L2 x y)) (ar 0 0).toNat b) k 0 ∧ fd (fun y b => fd (fun x b => max b (szB (ar 0) L2 x y)) (ar 0 0).toNat b) k 0 ≤ 64) (F := fun k c => t_Ev (t_pg G) t_hd Y_X5_largestRegion 13 ([some (.ref m), some (.int (iI (fd (fun y b => fd (fun x b => max b (szB (ar 0) L2 x y)) (ar 0 0).toNat b) k 0))), some (.int (iI (k : Int))), c], [], (hM m (fU fi 7 0) a2 g, z))) (fun k hk c hI => by
    obtain ⟨e1, b1⟩ := e_lr25 (G := G) (m := m) (fi := fU fi 7 0) (ar := a2) (g := g) (z := z) (by rw [hs]; exact hD) (by rw [hs]; exact hB) la (by rw [hs]; exact lf2.1) (k := k) (by omega) hI
    rw [hs] at e1 b1
    refine ⟨some (.int (iI (ar 0 0))), b1, ?_⟩
    rw [b_X5_largestRegion_13]
    simp (disch := omega) only [mK, mgI6, mgI7, mgI13, mgI14, mgI15, mgI16, mgI17, mgI18, mgI19, mgI20, mgI21, mgI22, mgI23, mgI24, mgI25, mgI26, mgI27, mgR0, mgR1, mgR2, mgR3, mgR4, mgR5, mgR8, mgR9, mgR10, mgR11, mgR12, Option.bind_some, va_rf_some, va_rf_none, bI_rI, bI_rB, bV_rV, bB_0, bB_1, iI_add, iI_sub, iI_mul, iI_neg, rI_of, rV_of, Int.reduceToNat, Int.neg_neg, mld0, iI_lt, hs]
    rw [if_pos (show (k : Int) < ar 0 1 by omega)]
    exact e1) none ⟨Int.le_refl 0, show (0 : Int) ≤ 64 by decide⟩
  refine Eq.trans e ?_
  rw [b_X5_largestRegion_13]
  simp (disch := omega) only [mK, mgI6, mgI7, mgI13, mgI14, mgI15, mgI16, mgI17, mgI18, mgI19, mgI20, mgI21, mgI22, mgI23, mgI24, mgI25, mgI26, mgI27, mgR0, mgR1, mgR2, mgR3, mgR4, mgR5, mgR8, mgR9, mgR10, mgR11, mgR12, Option.bind_some, va_rf_some, va_rf_none, bI_rI, bI_rB, bV_rV, bB_0, bB_1, iI_add, iI_sub, iI_mul, iI_neg, rI_of, rV_of, Int.reduceToNat, Int.neg_neg, mld0, iI_lt, hs]
  rw [if_neg (by omega)]
  rfl
theorem m_regionSize (md : Md fi ar) {L : Nat → Nat} (lf : Lf (ar 0) L) {x y : Int} (h1 : InR x) (h2 : InR y) : MQr m g z fi ar kcB (t_Ev (t_pg G) t_hd Y_X5_regionSize 0 ([some (.ref m), some (.int (iI x)), some (.int (iI y))], [], (hM m fi ar g, z))) (if inB (ar 0) x y = true then .inr (szB (ar 0) L x y) else .inl 17) := by
  have hD := md.w.bd.dm
  have hB := md.w.rb
  rw [b_X5_regionSize_0, mK, Option.bind_some, e_isInside hD h1.1 h1.2 h2.1 h2.2, bI_rB]
  simp only [bB_0]
  cases c : inB (ar 0) x y with
  | false =>
    refine MQr.t7 (c := 1) (w := 0) ?_ rfl
    rw [if_pos rfl, b_X5_regionSize_15, mK, Option.bind_some, ef1, bI_rI]
    rfl
  | true =>
    have hi := inB_7 hD c
    obtain ⟨a2, L2, e2, s2, la, lf2⟩ := e_findRegions (G := G) (m := m) (fi := fU fi 7 0) (ar := ar) (g := g) (z := z) hD hB
    have hs : a2 0 = ar 0 := s2.2 0 (by decide)
    rw [if_neg (by decide), if_pos rfl]
    refine MQr.v (fi' := fU fi 7 0) (ar' := a2) ?_ (Sc.r12 ⟨fun _ _ => rfl, s2.2⟩ |>.fU (by decide)) fU_s
    rw [b_X5_regionSize_15, mK, Option.bind_some, ef0, bI_rI, if_pos rfl, mK, Option.bind_some, e2, bV_rV, mK, Option.bind_some, e_sizeAt (by rw [hs]; exact hD) (by rw [hs]; exact hB) la (by rw [hs]; exact lf2.1) (by omega) (by omega), bI_rI, hs, szB_cg hD lf lf2 (by omega) (by omega)]
    rfl
theorem mn_ok {s : tRow} {L : Nat → Nat} (hD : Dm s) (h : rgN s L ≠ 0) : FP.fdiv (FP.i2f (iI (emA s))) (FP.i2f (iI (rgN s L))) &&& 0x7fffffff ≤ 0x7f800000 ∧ FP.f2d (FP.fdiv (FP.i2f (iI (emA s))) (FP.i2f (iI (rgN s L)))) &&& 0x7fffffffffffffff ≤ 0x7ff0000000000000 := by
  have c := emA_b hD
  have q := rgN_b (L := L) hD
  have := ff_ok (emA s).toNat (by omega) (rgN s L).toNat (by omega) (by omega)
  rw [Int.toNat_of_nonneg c.1, Int.toNat_of_nonneg q.1] at this
  exact this
theorem m_meanRegion (md : Md fi ar) {L : Nat → Nat} (lf : Lf (ar 0) L) : ∃ a2, t_Ev (t_pg G) t_hd Y_X5_meanRegion 0 ([some (.ref m), none], [], (hM m fi ar g, z)) = rF (mnF (emA (ar 0)) (rgN (ar 0) L)) (hM m (fU fi 7 0) a2 g, z) ∧ Sc QI QA fi ar (fU fi 7 0) a2 := by
  have hD := md.w.bd.dm
  have hB := md.w.rb
  have q := rgN_b (L := L) hD
  obtain ⟨a2, e2, s2⟩ := e_regions (G := G) (m := m) (fi := fU fi 7 0) (ar := ar) (g := g) (z := z) hD hB lf
  have hs : a2 0 = ar 0 := s2.2 0 (by decide)
  refine ⟨a2, ?_, Sc.r12 ⟨fun _ _ => rfl, s2.2⟩ |>.fU (by decide)⟩
  rw [b_X5_meanRegion_0, mpI7, Option.bind_some, mK, Option.bind_some, e2, bI_rI]
  simp (disch := omega) only [iI_inj]
  unfold mnF
  by_cases c : rgN (ar 0) L = 0
  · rw [if_pos c, if_pos c]; rfl
  · rw [if_neg c, if_neg c, mK, Option.bind_some, e_allEmpty (by rw [hs]; exact hD) (by rw [hs]; exact hB), bI_rI, hs, if_pos (mn_ok hD c).1]
    rfl
end MRH
