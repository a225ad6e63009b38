/-! ===== the model: counts, points, placements made ===== -/
theorem tn_of {a : Int} (h : 0 ≤ a) : ((a.toNat : Nat) : Int) = a := Int.toNat_of_nonneg h
theorem rI_cg {a b : Int} {hs : tHS} (h : a = b) : rI a hs = rI b hs := by rw [h]
/-- the empty cells of a line -/
def emi (s : tRow) (y : Int) : Int := sm (fun x => bB (decide (cI s x y = 0))) (s 0).toNat
theorem sm_bB {p : Nat → Bool} {n : Nat} : 0 ≤ sm (fun k => bB (p k)) n ∧ sm (fun k => bB (p k)) n ≤ n := by
  induction n with
  | zero => exact ⟨Int.le_refl 0, Int.le_refl 0⟩
  | succ n ih =>
    rw [sm]
    have h1 := bB_ge (b := p n)
    have h2 := bB_le (b := p n)
    omega
theorem emi_b {s : tRow} (hD : Dm s) {y : Int} : 0 ≤ emi s y ∧ emi s y ≤ 8 := by
  have := sm_bB (p := fun x => decide (cI s x y = 0)) (n := (s 0).toNat)
  have := hD.1
  unfold emi
  omega
/-- how many cells of a placement lie in a line -/
def nIn (sh r y row : Int) : Int := sm (fun k => bB (decide (cY sh r y k = row))) (shN sh)
theorem nIn_b {sh r y row : Int} : 0 ≤ nIn sh r y row ∧ nIn sh r y row ≤ 4 := by
  have := sm_bB (p := fun k => decide (cY sh r y k = row)) (n := shN sh)
  have := (shN_b (sh := sh)).2
  unfold nIn
  omega
def ptr (s : tRow) (sh r y row : Int) : Int := if 0 < nIn sh r y row ∧ nIn sh r y row = emi s row then s 0 else 0
/-- the points of a placement -/
def pts (s : tRow) (sh r y : Int) : Int := shN sh + sm (fun row => ptr s sh r y row) (s 1).toNat
theorem ptr_b {s : tRow} (hD : Dm s) {sh r y row : Int} : 0 ≤ ptr s sh r y row ∧ ptr s sh r y row ≤ 8 := by
  have := hD.1
  unfold ptr
  split <;> omega
theorem smp_b {f : Nat → Int} {n : Nat} (hn : n ≤ 8) (h : ∀ k, 0 ≤ f k ∧ f k ≤ 8) : 0 ≤ sm f n ∧ sm f n ≤ 64 := by
  have h1 := sm_ge (f := f) (n := n) fun k _ => (h k).1
  have h2 := sm_le (f := f) (c := 8) (n := n) fun k _ => (h k).2
  omega
theorem pts_b {s : tRow} (hD : Dm s) {sh r y : Int} : 2 ≤ pts s sh r y ∧ pts s sh r y ≤ 68 := by
  have h1 := shN_b (sh := sh)
  have h2 := smp_b (f := fun row => ptr s sh r y row) (n := (s 1).toNat) (by have := hD.2; omega) fun k => ptr_b hD
  unfold pts
  omega
/-- a player's number -/
def plI (p w : Int) : Int := 5 + p * 14 + w
def ofS (s : tRow) (p w : Int) : Int := s (plI p w).toNat
def fitr (s : tRow) (sh r : Int) (y : Int) : Int := sm (fun x => bB (decide (mf s sh r x y = 0))) (s 0).toNat
def fitq (s : tRow) (sh r : Int) : Int := sm (fun y => fitr s sh r y) (s 1).toNat
/-- how many placements of a shape fit -/
def fitc (s : tRow) (sh : Int) : Int := sm (fun r => fitq s sh r) 4
def movf (s : tRow) (p sh : Int) : Int := if 0 < ofS s p (2 + sh) then fitc s sh else 0
def movs (s : tRow) (p : Int) : Int := sm (fun sh => movf s p sh) 5
theorem fitr_b {s : tRow} (hD : Dm s) {sh r y : Int} : 0 ≤ fitr s sh r y ∧ fitr s sh r y ≤ 8 := by
  have := sm_bB (p := fun x => decide (mf s sh r x y = 0)) (n := (s 0).toNat)
  have := hD.1
  unfold fitr
  omega
theorem fitq_b {s : tRow} (hD : Dm s) {sh r : Int} : 0 ≤ fitq s sh r ∧ fitq s sh r ≤ 64 := smp_b (by have := hD.2; omega) fun _ => fitr_b hD
theorem fitc_b {s : tRow} (hD : Dm s) {sh : Int} : 0 ≤ fitc s sh ∧ fitc s sh ≤ 256 := by
  have h1 := sm_ge (f := fun r => fitq s sh r) (n := 4) fun k _ => (fitq_b hD).1
  have h2 := sm_le (f := fun r => fitq s sh r) (c := 64) (n := 4) fun k _ => (fitq_b hD).2
  unfold fitc
  omega
theorem movf_b {s : tRow} (hD : Dm s) {p sh : Int} : 0 ≤ movf s p sh ∧ movf s p sh ≤ 256 := by
  have := fitc_b hD (sh := sh)
  unfold movf
  split <;> omega
theorem movs_b {s : tRow} (hD : Dm s) {p : Int} : 0 ≤ movs s p ∧ movs s p ≤ 1280 := by
  have h1 := sm_ge (f := fun sh => movf s p sh) (n := 5) fun k _ => (movf_b hD).1
  have h2 := sm_le (f := fun sh => movf s p sh) (c := 256) (n := 5) fun k _ => (movf_b hD).2
  unfold movs
  omega
def ovr (s : tRow) : Bool := decide (s 3 = 2)
def mayP (s : tRow) (sh r x y : Int) : Bool := !ovr s && (decide (0 < ofS s (s 2) (2 + sh)) && decide (mf s sh r x y = 0))
/-- the cells of a placement set -/
def setC (s : tRow) (sh r x y v : Int) : Nat → tRow
  | 0 => s
  | k + 1 => fU (setC s sh r x y v k) (33 + (8 * cY sh r y k + cX sh r x k)).toNat v
/-- a placement made -/
def plc (s : tRow) (sh r x y : Int) : tRow :=
  fU (fU (fU (fU (fU (fU (fU (fU (fU (fU (fU (setC s sh r x y (2 + s 4) (shN sh)) (225 + s 4 * 6).toNat sh) (225 + s 4 * 6 + 1).toNat r) (225 + s 4 * 6 + 2).toNat x) (225 + s 4 * 6 + 3).toNat y) (225 + s 4 * 6 + 4).toNat (s 2)) (225 + s 4 * 6 + 5).toNat (pts s sh r y)) 4 (s 4 + 1))
    (plI (s 2) 0).toNat (ofS s (s 2) 0 + pts s sh r y)) (plI (s 2) (2 + sh)).toNat (ofS s (s 2) (2 + sh) - 1)) 2 (1 - s 2)) 3 0
theorem setC_n {s : tRow} {sh r x y v : Int} {n j : Nat} (h : ∀ k, k < n → (0 ≤ cX sh r x k ∧ cX sh r x k ≤ 7) ∧ 0 ≤ cY sh r y k ∧ cY sh r y k ≤ 7) (hj : j < 33 ∨ 97 ≤ j) : setC s sh r x y v n j = s j := by
  induction n with
  | zero => rfl
  | succ n ih =>
    have := h n (Nat.lt_succ_self n)
    rw [setC, fU_n (by omega)]
    exact ih fun k hk => h k (Nat.lt_succ_of_lt hk)
def pOf (s : tRow) (x y : Int) : Int := if 2 ≤ cI s x y then cI s x y - 2 else -1
def bey0 (x d : Int) : Int := if d = 0 then x + 1 else x
def bey1 (y d : Int) : Int := if d = 0 then y else y + 1
def mayF (s : tRow) (x y d : Int) : Bool := !ovr s && (!decide (ofS s (s 2) 1 = 0) && (!stN s x y (bey0 x d) (bey1 y d) && (!decide (cI s x y = 1) && (!decide (cI s (bey0 x d) (bey1 y d) = 1) && (decide (pOf s x y = -1) || !decide (pOf s x y = pOf s (bey0 x d) (bey1 y d)))))))
def fas (s : tRow) (x y d : Int) : tRow := fU (fU (fU (fU s (edI x y d).toNat 1) (plI (s 2) 1).toNat (ofS s (s 2) 1 - 1)) 2 (1 - s 2)) 3 0
def mayS (s : tRow) : Bool := !ovr s && decide (movs s (s 2) = 0)
def pas (s : tRow) : tRow := fU (fU s 3 (s 3 + 1)) 2 (1 - s 2)
section MQ
variable {G : tG} {m : Nat} {fi : Nat → Int} {ar : Nat → Nat → Int} {g : tAH} {z : Nat × Nat} {hs : tHS}
theorem e_emptyIn (hD : Dm (ar 0)) (hB : RB (ar 0)) {y : Int} (h1 : 0 ≤ y) (h2 : y ≤ 7) : t_Ev (t_pg G) t_hd Y_X5_emptyIn 0 ([some (.ref m), some (.int (iI y)), none, none], [], (hM m fi ar g, z)) = rI (emi (ar 0) y) (hM m fi ar g, z) := by
  rw [b_X5_emptyIn_0]
  have hd := hD.1
  have hn := tn_of hd.1
  refine Eq.trans (lp_up (N := (ar 0 0).toNat) (F := fun k => t_Ev (t_pg G) t_hd Y_X5_emptyIn 4 ([some (.ref m), some (.int (iI y)), some (.int (iI (sm (fun x => bB (decide (cI (ar 0) x y = 0))) k))), some (.int (iI (k : Int)))], [], (hM m fi ar g, z))) (fun k hk => ?_)) ?_
  · have hk' : (k : Int) < ar 0 0 := by omega
    have hc := hB.c k y
    try dsimp only
    rw [b_X5_emptyIn_4]
    simp (disch := omega) only [mK, mgI6, mgI7, mgI13, mgI14, mgI15, mgI16, mgI17, mgI18, mgI19, mgI20, mgI21, mgI22, mgI23, mgI24, mgI25, mgI26, mgI27, mgR0, mgR1, mgR2, mgR3, mgR4, mgR5, mgR8, mgR9, mgR10, mgR11, mgR12, Option.bind_some, va_rf_some, va_rf_none, bI_rI, bI_rB, bV_rV, bB_0, bB_1, iI_add, iI_sub, iI_mul, iI_neg, rI_of, rV_of, Int.reduceToNat, Int.neg_neg, iI_lt, iI_le, iI_inj, Int.toNat_natCast, Int.lt_irrefl, if_true, if_false, reduceIte, mld0, hk', e_cell, sm]
    by_cases c : cI (ar 0) k y = 0
    · rw [if_pos c, decide_eq_true c]; rfl
    · rw [if_neg c, decide_eq_false c, bB_f, Int.add_zero]; rfl
  · try dsimp only
    rw [b_X5_emptyIn_4]
    simp (disch := omega) only [mK, mgI6, mgI7, mgI13, mgI14, mgI15, mgI16, mgI17, mgI18, mgI19, mgI20, mgI21, mgI22, mgI23, mgI24, mgI25, mgI26, mgI27, mgR0, mgR1, mgR2, mgR3, mgR4, mgR5, mgR8, mgR9, mgR10, mgR11, mgR12, Option.bind_some, va_rf_some, va_rf_none, bI_rI, bI_rB, bV_rV, bB_0, bB_1, iI_add, iI_sub, iI_mul, iI_neg, rI_of, rV_of, Int.reduceToNat, Int.neg_neg, iI_lt, iI_le, iI_inj, Int.toNat_natCast, Int.lt_irrefl, if_true, if_false, reduceIte, mld0, hn]
    (try rfl)
theorem e_points (hD : Dm (ar 0)) (hB : RB (ar 0)) {sh r x y : Int} (h1 : 0 ≤ sh) (h2 : sh ≤ 4) (h3 : 0 ≤ r) (h4 : r ≤ 3) (h5 : 0 ≤ x ∧ x ≤ 7) (h6 : 0 ≤ y ∧ y ≤ 7) : ∃ fi' ar', t_Ev (t_pg G) t_hd Y_X5_points 0 ([some (.ref m), some (.int (iI sh)), some (.int (iI r)), some (.int (iI x)), some (.int (iI y)), none, none, none, none], [], (hM m fi ar g, z)) = rI (pts (ar 0) sh r y) (hM m fi' ar' g, z) ∧ Sc [17] [10, 11] fi ar fi' ar' ∧ Spd fi' ar' sh r x y := by
  obtain ⟨fi', ar', e, hS, hP⟩ := e_spreads (G := G) (m := m) (fi := fi) (ar := ar) (g := g) (z := z) (x := x) (y := y) h1 h2 h3 h4
  refine ⟨fi', ar', ?_, hS, hP⟩
  have h0 : ar' 0 = ar 0 := hS.2 0 (by decide)
  rw [← h0] at hD hB ⊢
  have hN := shN_b (sh := sh)
  have hd := hD.2
  have hn := tn_of hd.1
  rw [b_X5_points_0]
  simp only [mgI6, mgI7, mgI13, mgI14, mgI15, mgI16, mgI17, mgI18, mgI19, mgI20, mgI21, mgI22, mgI23, mgI24, mgI25, mgI26, mgI27, mK, Option.bind_some, va_rf_some, va_rf_none, bI_rI, bI_rB, bV_rV, bB_0, bB_1, iI_add, iI_sub, iI_mul, iI_neg, rI_of, rV_of, Int.reduceToNat, Int.neg_neg, e, hP.1]
  obtain ⟨c', e'⟩ := lp_e0 (N := (ar' 0 1).toNat) (σ := Option Value × Option Value) (F := fun k c => t_Ev (t_pg G) t_hd Y_X5_points 18 ([some (.ref m), some (.int (iI sh)), some (.int (iI r)), some (.int (iI x)), some (.int (iI y)), some (.int (iI ((shN sh : Int) + sm (fun row => ptr (ar' 0) sh r y row) k))), some (.int (iI (k : Int))), c.1, c.2], [], (hM m fi' ar' g, z))) (fun k hk c => by
    have hk' : (k : Int) < ar' 0 1 := by omega
    refine ⟨(some (.int (iI (nIn sh r y k))), some (.int (iI (shN sh)))), ?_⟩
    try dsimp only
    rw [b_X5_points_18]
    simp (disch := omega) only [mK, mgI6, mgI7, mgI13, mgI14, mgI15, mgI16, mgI17, mgI18, mgI19, mgI20, mgI21, mgI22, mgI23, mgI24, mgI25, mgI26, mgI27, mgR0, mgR1, mgR2, mgR3, mgR4, mgR5, mgR8, mgR9, mgR10, mgR11, mgR12, Option.bind_some, va_rf_some, va_rf_none, bI_rI, bI_rB, bV_rV, bB_0, bB_1, iI_add, iI_sub, iI_mul, iI_neg, rI_of, rV_of, Int.reduceToNat, Int.neg_neg, iI_lt, iI_le, iI_inj, Int.toNat_natCast, Int.lt_irrefl, if_true, if_false, reduceIte, mld0, hk']
    refine Eq.trans (lp_up (N := shN sh) (F := fun j => t_Ev (t_pg G) t_hd Y_X5_points 35 ([some (.ref m), some (.int (iI sh)), some (.int (iI r)), some (.int (iI x)), some (.int (iI y)), some (.int (iI ((shN sh : Int) + sm (fun row => ptr (ar' 0) sh r y row) k))), some (.int (iI (k : Int))), some (.int (iI (sm (fun q => bB (decide (cY sh r y q = k))) j))), some (.int (iI (j : Int)))], [], (hM m fi' ar' g, z))) (fun j hj => ?_)) ?_
    · have hj' : (j : Int) < (shN sh : Int) := by omega
      obtain ⟨r1, r2⟩ := hP.2 j hj
      have b2 := cY_b (r := r) (y := y) hj
      try dsimp only
      rw [b_X5_points_35]
      simp (disch := omega) only [mK, mgI6, mgI7, mgI13, mgI14, mgI15, mgI16, mgI17, mgI18, mgI19, mgI20, mgI21, mgI22, mgI23, mgI24, mgI25, mgI26, mgI27, mgR0, mgR1, mgR2, mgR3, mgR4, mgR5, mgR8, mgR9, mgR10, mgR11, mgR12, Option.bind_some, va_rf_some, va_rf_none, bI_rI, bI_rB, bV_rV, bB_0, bB_1, iI_add, iI_sub, iI_mul, iI_neg, rI_of, rV_of, Int.reduceToNat, Int.neg_neg, iI_lt, iI_le, iI_inj, Int.toNat_natCast, Int.lt_irrefl, if_true, if_false, reduceIte, mld11, hj', r1, r2, hP.1, sm]
      by_cases c : cY sh r y j = k
      · rw [if_pos c, decide_eq_true c]; rfl
      · rw [if_neg c, decide_eq_false c, bB_f, Int.add_zero]; rfl
    · have n1 := nIn_b (sh := sh) (r := r) (y := y) (row := k)
      have n2 := emi_b hD (y := k)
      try dsimp only
      rw [b_X5_points_35]
      simp only [show sm (fun q => bB (decide (cY sh r y q = k))) (shN sh) = nIn sh r y k from rfl]
      simp (disch := first | omega | exact hD | exact hB) only [mK, mgI6, mgI7, mgI13, mgI14, mgI15, mgI16, mgI17, mgI18, mgI19, mgI20, mgI21, mgI22, mgI23, mgI24, mgI25, mgI26, mgI27, mgR0, mgR1, mgR2, mgR3, mgR4, mgR5, mgR8, mgR9, mgR10, mgR11, mgR12, Option.bind_some, va_rf_some, va_rf_none, bI_rI, bI_rB, bV_rV, bB_0, bB_1, iI_add, iI_sub, iI_mul, iI_neg, rI_of, rV_of, Int.reduceToNat, Int.neg_neg, iI_lt, iI_le, iI_inj, Int.toNat_natCast, Int.lt_irrefl, if_true, if_false, reduceIte, mld0, hP.1, e_emptyIn hD hB, sm]
      rw [show ptr (ar' 0) sh r y k = if 0 < nIn sh r y k ∧ nIn sh r y k = emi (ar' 0) k then ar' 0 0 else 0 from rfl]
      by_cases q1 : 0 < nIn sh r y k
      · rw [if_pos q1]
        by_cases q2 : nIn sh r y k = emi (ar' 0) k
        · rw [if_pos q2, if_pos ⟨q1, q2⟩, Int.add_assoc]; rfl
        · rw [if_neg q2, if_neg (fun q => q2 q.2), Int.add_zero]; rfl
      · rw [if_neg q1, if_neg (fun q => q1 q.1), Int.add_zero]; rfl) (none, none)
  refine Eq.trans (Eq.trans ?_ e') ?_
  · simp only [sm, Int.add_zero]; rfl
  · try dsimp only
    rw [b_X5_points_18]
    simp (disch := omega) only [mK, mgI6, mgI7, mgI13, mgI14, mgI15, mgI16, mgI17, mgI18, mgI19, mgI20, mgI21, mgI22, mgI23, mgI24, mgI25, mgI26, mgI27, mgR0, mgR1, mgR2, mgR3, mgR4, mgR5, mgR8, mgR9, mgR10, mgR11, mgR12, Option.bind_some, va_rf_some, va_rf_none, bI_rI, bI_rB, bV_rV, bB_0, bB_1, iI_add, iI_sub, iI_mul, iI_neg, rI_of, rV_of, Int.reduceToNat, Int.neg_neg, iI_lt, iI_le, iI_inj, Int.toNat_natCast, Int.lt_irrefl, if_true, if_false, reduceIte, mld0, hn]
    (try rfl)
theorem e_of {p w : Int} (h1 : 0 ≤ plI p w) (h2 : plI p w < 417) : t_Ev (t_pg G) t_hd Y_X5_of 0 ([some (.ref m), some (.int (iI p)), some (.int (iI w))], [], (hM m fi ar g, z)) = rI (ofS (ar 0) p w) (hM m fi ar g, z) := by
  unfold plI at h1 h2
  rw [b_X5_of_0]
  simp (disch := omega) only [mK, mgI6, mgI7, mgI13, mgI14, mgI15, mgI16, mgI17, mgI18, mgI19, mgI20, mgI21, mgI22, mgI23, mgI24, mgI25, mgI26, mgI27, mgR0, mgR1, mgR2, mgR3, mgR4, mgR5, mgR8, mgR9, mgR10, mgR11, mgR12, Option.bind_some, va_rf_some, va_rf_none, bI_rI, bI_rB, bV_rV, bB_0, bB_1, iI_add, iI_sub, iI_mul, iI_neg, rI_of, rV_of, Int.reduceToNat, Int.neg_neg, mld0]
  (try rfl)
theorem e_put {p w u : Int} (h1 : 0 ≤ plI p w) (h2 : plI p w < 417) : t_Ev (t_pg G) t_hd Y_X5_put 0 ([some (.ref m), some (.int (iI p)), some (.int (iI w)), some (.int (iI u))], [], (hM m fi ar g, z)) = rV (hM m fi (aU ar 0 (plI p w).toNat u) g, z) := by
  unfold plI at h1 h2
  rw [b_X5_put_0]
  simp (disch := omega) only [mK, mgI6, mgI7, mgI13, mgI14, mgI15, mgI16, mgI17, mgI18, mgI19, mgI20, mgI21, mgI22, mgI23, mgI24, mgI25, mgI26, mgI27, mgR0, mgR1, mgR2, mgR3, mgR4, mgR5, mgR8, mgR9, mgR10, mgR11, mgR12, Option.bind_some, va_rf_some, va_rf_none, bI_rI, bI_rB, bV_rV, bB_0, bB_1, iI_add, iI_sub, iI_mul, iI_neg, rI_of, rV_of, Int.reduceToNat, Int.neg_neg, mst0]
  (try rfl)
theorem e_over (hB : RB (ar 0)) : t_Ev (t_pg G) t_hd Y_X5_over 0 ([some (.ref m)], [], (hM m fi ar g, z)) = rB (ovr (ar 0)) (hM m fi ar g, z) := by
  have := hB 3
  rw [b_X5_over_0]
  simp (disch := omega) only [mK, mgI6, mgI7, mgI13, mgI14, mgI15, mgI16, mgI17, mgI18, mgI19, mgI20, mgI21, mgI22, mgI23, mgI24, mgI25, mgI26, mgI27, mgR0, mgR1, mgR2, mgR3, mgR4, mgR5, mgR8, mgR9, mgR10, mgR11, mgR12, Option.bind_some, va_rf_some, va_rf_none, bI_rI, bI_rB, bV_rV, bB_0, bB_1, iI_add, iI_sub, iI_mul, iI_neg, rI_of, rV_of, Int.reduceToNat, Int.neg_neg, mld0, iI_inj, rB_dec]
  (try rfl)
theorem e_fit26 (hD : Dm (ar 0)) (hB : RB (ar 0)) {sh r y q : Int} (h1 : 0 ≤ sh) (h2 : sh ≤ 4) (h3 : 0 ≤ r) (h4 : r ≤ 3) (h6 : 0 ≤ y ∧ y ≤ 7) : ∃ fi' ar' u, t_Ev (t_pg G) t_hd Y_X5_fitting 26 ([some (.ref m), some (.int (iI sh)), some (.int (iI q)), some (.int (iI r)), some (.int (iI y)), some (.int (iI 0))], [], (hM m fi ar g, z)) = t_Ev (t_pg G) t_hd Y_X5_fitting 12 ([some (.ref m), some (.int (iI sh)), some (.int (iI (q + fitr (ar 0) sh r y))), some (.int (iI r)), some (.int (iI (y + 1))), u], [], (hM m fi' ar' g, z)) ∧ Sc [17] [10, 11] fi ar fi' ar' := by
  have hd := hD.1
  have hn := tn_of hd.1
  obtain ⟨⟨fi', ar'⟩, i1, e⟩ := lp_ik (N := (ar 0 0).toNat) (σ := (Nat → Int) × (Nat → Nat → Int)) (I := fun _ c => Sc [17] [10, 11] fi ar c.1 c.2) (F := fun k c => t_Ev (t_pg G) t_hd Y_X5_fitting 26 ([some (.ref m), some (.int (iI sh)), some (.int (iI (q + sm (fun x => bB (decide (mf (ar 0) sh r x y = 0))) k))), some (.int (iI r)), some (.int (iI y)), some (.int (iI (k : Int)))], [], (hM m c.1 c.2 g, z))) (fun k hk c hc => by
    have hk' : (k : Int) < ar 0 0 := by omega
    have h0 : c.2 0 = ar 0 := hc.2 0 (by decide)
    obtain ⟨fi', ar', e, hS, hP⟩ := e_misfit (G := G) (m := m) (fi := c.1) (ar := c.2) (g := g) (z := z) (sh := sh) (r := r) (x := k) (y := y) (by rw [h0]; exact hD) (by rw [h0]; exact hB) h1 h2 h3 h4 (by omega) h6
    rw [h0] at e
    have hm := mf_b (s := ar 0) (sh := sh) (r := r) (x := k) (y := y)
    refine ⟨(fi', ar'), hc.trans hS, ?_⟩
    try dsimp only
    rw [b_X5_fitting_26]
    simp (disch := omega) only [mK, mgI6, mgI7, mgI13, mgI14, mgI15, mgI16, mgI17, mgI18, mgI19, mgI20, mgI21, mgI22, mgI23, mgI24, mgI25, mgI26, mgI27, mgR0, mgR1, mgR2, mgR3, mgR4, mgR5, mgR8, mgR9, mgR10, mgR11, mgR12, Option.bind_some, va_rf_some, va_rf_none, bI_rI, bI_rB, bV_rV, bB_0, bB_1, iI_add, iI_sub, iI_mul, iI_neg, rI_of, rV_of, Int.reduceToNat, Int.neg_neg, iI_lt, iI_le, iI_inj, Int.toNat_natCast, Int.lt_irrefl, if_true, if_false, reduceIte, mld0, h0, hk', e, sm]
    by_cases c : mf (ar 0) sh r k y = 0
    · rw [if_pos c, decide_eq_true c, Int.add_assoc]; rfl
    · rw [if_neg c, decide_eq_false c, bB_f, Int.add_zero]; rfl) (fi, ar) Sc.refl
  refine ⟨fi', ar', some (.int (iI (((ar 0 0).toNat : Nat) : Int))), Eq.trans ?_ (Eq.trans e ?_), i1⟩
  · simp only [sm, Int.add_zero]; rfl
  · have h0 : ar' 0 = ar 0 := i1.2 0 (by decide)
    try dsimp only
    rw [b_X5_fitting_26]
    simp (disch := omega) only [mK, mgI6, mgI7, mgI13, mgI14, mgI15, mgI16, mgI17, mgI18, mgI19, mgI20, mgI21, mgI22, mgI23, mgI24, mgI25, mgI26, mgI27, mgR0, mgR1, mgR2, mgR3, mgR4, mgR5, mgR8, mgR9, mgR10, mgR11, mgR12, Option.bind_some, va_rf_some, va_rf_none, bI_rI, bI_rB, bV_rV, bB_0, bB_1, iI_add, iI_sub, iI_mul, iI_neg, rI_of, rV_of, Int.reduceToNat, Int.neg_neg, iI_lt, iI_le, iI_inj, Int.toNat_natCast, Int.lt_irrefl, if_true, if_false, reduceIte, mld0, h0, hn]
    (try rfl)
theorem e_fit12 (hD : Dm (ar 0)) (hB : RB (ar 0)) {sh r q : Int} {u : Option Value} (h1 : 0 ≤ sh) (h2 : sh ≤ 4) (h3 : 0 ≤ r) (h4 : r ≤ 3) : ∃ fi' ar' u1 u2, t_Ev (t_pg G) t_hd Y_X5_fitting 12 ([some (.ref m), some (.int (iI sh)), some (.int (iI q)), some (.int (iI r)), some (.int (iI 0)), u], [], (hM m fi ar g, z)) = t_Ev (t_pg G) t_hd Y_X5_fitting 4 ([some (.ref m), some (.int (iI sh)), some (.int (iI (q + fitq (ar 0) sh r))), some (.int (iI (r + 1))), u1, u2], [], (hM m fi' ar' g, z)) ∧ Sc [17] [10, 11] fi ar fi' ar' := by
  have hd := hD.2
  have hn := tn_of hd.1
  obtain ⟨⟨fi', ar', u'⟩, i1, e⟩ := lp_ik (N := (ar 0 1).toNat) (σ := (Nat → Int) × (Nat → Nat → Int) × Option Value) (I := fun _ c => Sc [17] [10, 11] fi ar c.1 c.2.1) (F := fun k c => t_Ev (t_pg G) t_hd Y_X5_fitting 12 ([some (.ref m), some (.int (iI sh)), some (.int (iI (q + sm (fun y => fitr (ar 0) sh r y) k))), some (.int (iI r)), some (.int (iI (k : Int))), c.2.2], [], (hM m c.1 c.2.1 g, z))) (fun k hk c hc => by
    have hk' : (k : Int) < ar 0 1 := by omega
    have h0 : c.2.1 0 = ar 0 := hc.2 0 (by decide)
    obtain ⟨fi', ar', u, e, hS⟩ := e_fit26 (G := G) (m := m) (fi := c.1) (ar := c.2.1) (g := g) (z := z) (sh := sh) (r := r) (y := k) (q := q + sm (fun y => fitr (ar 0) sh r y) k) (by rw [h0]; exact hD) (by rw [h0]; exact hB) h1 h2 h3 h4 (by omega)
    rw [h0] at e
    refine ⟨(fi', ar', u), hc.trans hS, ?_⟩
    try dsimp only
    rw [b_X5_fitting_12]
    simp (disch := omega) only [mK, mgI6, mgI7, mgI13, mgI14, mgI15, mgI16, mgI17, mgI18, mgI19, mgI20, mgI21, mgI22, mgI23, mgI24, mgI25, mgI26, mgI27, mgR0, mgR1, mgR2, mgR3, mgR4, mgR5, mgR8, mgR9, mgR10, mgR11, mgR12, Option.bind_some, va_rf_some, va_rf_none, bI_rI, bI_rB, bV_rV, bB_0, bB_1, iI_add, iI_sub, iI_mul, iI_neg, rI_of, rV_of, Int.reduceToNat, Int.neg_neg, iI_lt, iI_le, iI_inj, Int.toNat_natCast, Int.lt_irrefl, if_true, if_false, reduceIte, mld0, h0, hk', sm]
    rw [e, Int.add_assoc]
    rfl) (fi, ar, u) Sc.refl
  refine ⟨fi', ar', some (.int (iI (((ar 0 1).toNat : Nat) : Int))), u', Eq.trans ?_ (Eq.trans e ?_), i1⟩
  · simp only [sm, Int.add_zero]; rfl
  · have h0 : ar' 0 = ar 0 := i1.2 0 (by decide)
    try dsimp only
    rw [b_X5_fitting_12]
    simp (disch := omega) only [mK, mgI6, mgI7, mgI13, mgI14, mgI15, mgI16, mgI17, mgI18, mgI19, mgI20, mgI21, mgI22, mgI23, mgI24, mgI25, mgI26, mgI27, mgR0, mgR1, mgR2, mgR3, mgR4, mgR5, mgR8, mgR9, mgR10, mgR11, mgR12, Option.bind_some, va_rf_some, va_rf_none, bI_rI, bI_rB, bV_rV, bB_0, bB_1, iI_add, iI_sub, iI_mul, iI_neg, rI_of, rV_of, Int.reduceToNat, Int.neg_neg, iI_lt, iI_le, iI_inj, Int.toNat_natCast, Int.lt_irrefl, if_true, if_false, reduceIte, mld0, h0, hn]
    (try rfl)
theorem e_fitting (hD : Dm (ar 0)) (hB : RB (ar 0)) {sh : Int} (h1 : 0 ≤ sh) (h2 : sh ≤ 4) : ∃ fi' ar', t_Ev (t_pg G) t_hd Y_X5_fitting 0 ([some (.ref m), some (.int (iI sh)), none, none, none, none], [], (hM m fi ar g, z)) = rI (fitc (ar 0) sh) (hM m fi' ar' g, z) ∧ Sc [17] [10, 11] fi ar fi' ar' := by
  obtain ⟨⟨fi', ar', u1, u2⟩, i1, e⟩ := lp_ik (N := 4) (σ := (Nat → Int) × (Nat → Nat → Int) × Option Value × Option Value) (I := fun _ c => Sc [17] [10, 11] fi ar c.1 c.2.1) (F := fun k c => t_Ev (t_pg G) t_hd Y_X5_fitting 4 ([some (.ref m), some (.int (iI sh)), some (.int (iI (sm (fun r => fitq (ar 0) sh r) k))), some (.int (iI (k : Int))), c.2.2.1, c.2.2.2], [], (hM m c.1 c.2.1 g, z))) (fun k hk c hc => by
    have hk' : (k : Int) < 4 := by omega
    have h0 : c.2.1 0 = ar 0 := hc.2 0 (by decide)
    obtain ⟨fi', ar', u1, u2, e, hS⟩ := e_fit12 (G := G) (m := m) (fi := c.1) (ar := c.2.1) (g := g) (z := z) (sh := sh) (r := k) (q := sm (fun r => fitq (ar 0) sh r) k) (u := c.2.2.2) (by rw [h0]; exact hD) (by rw [h0]; exact hB) h1 h2 (by omega) (by omega)
    rw [h0] at e
    refine ⟨(fi', ar', u1, u2), hc.trans hS, ?_⟩
    try dsimp only
    rw [b_X5_fitting_4]
    simp (disch := omega) only [Option.bind_some, va_rf_some, va_rf_none, bI_rI, bI_rB, bV_rV, bB_0, bB_1, iI_add, iI_sub, iI_mul, iI_neg, rI_of, rV_of, Int.reduceToNat, Int.neg_neg, iI_lt, iI_le, iI_inj, Int.toNat_natCast, Int.lt_irrefl, if_true, if_false, reduceIte, hk', sm]
    rw [e]
    rfl) (fi, ar, none, none) Sc.refl
  refine ⟨fi', ar', ?_, i1⟩
  rw [b_X5_fitting_0]
  refine Eq.trans e ?_
  try dsimp only
  rw [b_X5_fitting_4]
  rfl
theorem e_moves (hD : Dm (ar 0)) (hB : RB (ar 0)) {p : Int} (h1 : 0 ≤ p) (h2 : p ≤ 1) : ∃ fi' ar', t_Ev (t_pg G) t_hd Y_X5_moves 0 ([some (.ref m), some (.int (iI p)), none, none], [], (hM m fi ar g, z)) = rI (movs (ar 0) p) (hM m fi' ar' g, z) ∧ Sc [17] [10, 11] fi ar fi' ar' := by
  obtain ⟨⟨fi', ar'⟩, i1, e⟩ := lp_ik (N := 5) (σ := (Nat → Int) × (Nat → Nat → Int)) (I := fun _ c => Sc [17] [10, 11] fi ar c.1 c.2) (F := fun k c => t_Ev (t_pg G) t_hd Y_X5_moves 4 ([some (.ref m), some (.int (iI p)), some (.int (iI (sm (fun sh => movf (ar 0) p sh) k))), some (.int (iI (k : Int)))], [], (hM m c.1 c.2 g, z))) (fun k hk c hc => by
    have hk' : (k : Int) < 5 := by omega
    have h0 : c.2 0 = ar 0 := hc.2 0 (by decide)
    have ho : 0 ≤ ofS (ar 0) p (2 + k) ∧ ofS (ar 0) p (2 + k) ≤ 1000000 := hB _
    obtain ⟨fi', ar', e, hS⟩ := e_fitting (G := G) (m := m) (fi := c.1) (ar := c.2) (g := g) (z := z) (sh := k) (by rw [h0]; exact hD) (by rw [h0]; exact hB) (by omega) (by omega)
    rw [h0] at e
    by_cases q : 0 < ofS (ar 0) p (2 + k)
    · refine ⟨(fi', ar'), hc.trans hS, ?_⟩
      try dsimp only
      rw [b_X5_moves_4]
      simp (disch := first | omega | (unfold plI; omega)) only [mK, Option.bind_some, va_rf_some, va_rf_none, bI_rI, bI_rB, bV_rV, bB_0, bB_1, iI_add, iI_sub, iI_mul, iI_neg, rI_of, rV_of, Int.reduceToNat, Int.neg_neg, iI_lt, iI_le, iI_inj, Int.toNat_natCast, Int.lt_irrefl, if_true, if_false, reduceIte, hk', e_of, h0, q, e, sm]
      rw [show movf (ar 0) p k = fitc (ar 0) k from if_pos q]
      rfl
    · refine ⟨c, hc, ?_⟩
      try dsimp only
      rw [b_X5_moves_4]
      simp (disch := first | omega | (unfold plI; omega)) only [mK, Option.bind_some, va_rf_some, va_rf_none, bI_rI, bI_rB, bV_rV, bB_0, bB_1, iI_add, iI_sub, iI_mul, iI_neg, rI_of, rV_of, Int.reduceToNat, Int.neg_neg, iI_lt, iI_le, iI_inj, Int.toNat_natCast, Int.lt_irrefl, if_true, if_false, reduceIte, hk', e_of, h0, q, sm]
      rw [show movf (ar 0) p k = 0 from if_neg q, Int.add_zero]
      rfl) (fi, ar) Sc.refl
  refine ⟨fi', ar', ?_, i1⟩
  rw [b_X5_moves_0]
  refine Eq.trans e ?_
  try dsimp only
  rw [b_X5_moves_4]
  rfl
theorem e_mayPlace (hD : Dm (ar 0)) (hB : RB (ar 0)) (hT : ar 0 2 ≤ 1) {sh r x y : Int} (h1 : 0 ≤ sh) (h2 : sh ≤ 4) (h3 : 0 ≤ r) (h4 : r ≤ 3) (h5 : 0 ≤ x ∧ x ≤ 7) (h6 : 0 ≤ y ∧ y ≤ 7) : ∃ fi' ar', t_Ev (t_pg G) t_hd Y_X5_mayPlace 0 ([some (.ref m), some (.int (iI sh)), some (.int (iI r)), some (.int (iI x)), some (.int (iI y))], [], (hM m fi ar g, z)) = rB (mayP (ar 0) sh r x y) (hM m fi' ar' g, z) ∧ Sc [17] [10, 11] fi ar fi' ar' := by
  have ht := (hB 2).1
  have ho : 0 ≤ ofS (ar 0) (ar 0 2) (2 + sh) ∧ ofS (ar 0) (ar 0 2) (2 + sh) ≤ 1000000 := hB _
  have hm := mf_b (s := ar 0) (sh := sh) (r := r) (x := x) (y := y)
  unfold mayP
  rw [b_X5_mayPlace_0]
  simp (disch := first | omega | exact hB | (unfold plI; omega)) only [mK, mgI6, mgI7, mgI13, mgI14, mgI15, mgI16, mgI17, mgI18, mgI19, mgI20, mgI21, mgI22, mgI23, mgI24, mgI25, mgI26, mgI27, mgR0, mgR1, mgR2, mgR3, mgR4, mgR5, mgR8, mgR9, mgR10, mgR11, mgR12, Option.bind_some, va_rf_some, va_rf_none, bI_rI, bI_rB, bV_rV, bB_0, bB_1, iI_add, iI_sub, iI_mul, iI_neg, rI_of, rV_of, Int.reduceToNat, Int.neg_neg, iI_lt, iI_le, iI_inj, Int.toNat_natCast, Int.lt_irrefl, if_true, if_false, reduceIte, e_over, mld0, e_of]
  cases ovr (ar 0) with
  | true => exact ⟨fi, ar, rfl, Sc.refl⟩
  | false =>
    by_cases q : 0 < ofS (ar 0) (ar 0 2) (2 + sh)
    · obtain ⟨fi', ar', e, hS, -⟩ := e_misfit (G := G) (m := m) (fi := fi) (ar := ar) (g := g) (z := z) hD hB h1 h2 h3 h4 h5 h6
      refine ⟨fi', ar', ?_, hS⟩
      simp (disch := omega) only [q, Option.bind_some, va_rf_some, va_rf_none, bI_rI, bI_rB, bV_rV, bB_0, bB_1, iI_add, iI_sub, iI_mul, iI_neg, rI_of, rV_of, Int.reduceToNat, Int.neg_neg, iI_lt, iI_le, iI_inj, Int.toNat_natCast, Int.lt_irrefl, if_true, if_false, reduceIte, e, rB_dec, decide_true, Bool.not_false, Bool.true_and]
    · refine ⟨fi, ar, ?_, Sc.refl⟩
      simp only [q, if_false, if_true, decide_false, Bool.false_and, Bool.and_false]
      (try rfl)
theorem e_turns : t_Ev (t_pg G) t_hd Y_X5_turns 0 ([some (.ref m)], [], (hM m fi ar g, z)) = rV (hM m fi (aU (aU ar 0 2 (1 - ar 0 2)) 0 3 0) g, z) := by
  rw [b_X5_turns_0]
  simp (disch := omega) only [mK, mgI6, mgI7, mgI13, mgI14, mgI15, mgI16, mgI17, mgI18, mgI19, mgI20, mgI21, mgI22, mgI23, mgI24, mgI25, mgI26, mgI27, mgR0, mgR1, mgR2, mgR3, mgR4, mgR5, mgR8, mgR9, mgR10, mgR11, mgR12, Option.bind_some, va_rf_some, va_rf_none, bI_rI, bI_rB, bV_rV, bB_0, bB_1, iI_add, iI_sub, iI_mul, iI_neg, rI_of, rV_of, Int.reduceToNat, Int.neg_neg, mld0, mst0]
theorem e_places (hD : Dm (ar 0)) (hB : RB (ar 0)) (hT : ar 0 2 ≤ 1) (hp : ar 0 4 ≤ 31) {sh r x y : Int} (h1 : 0 ≤ sh) (h2 : sh ≤ 4) (h3 : 0 ≤ r) (h4 : r ≤ 3) (h5 : 0 ≤ x ∧ x ≤ 7) (h6 : 0 ≤ y ∧ y ≤ 7) (hI : ∀ k, k < shN sh → (0 ≤ cX sh r x k ∧ cX sh r x k ≤ 7) ∧ 0 ≤ cY sh r y k ∧ cY sh r y k ≤ 7) : ∃ fi' ar', t_Ev (t_pg G) t_hd Y_X5_places 0 ([some (.ref m), some (.int (iI sh)), some (.int (iI r)), some (.int (iI x)), some (.int (iI y)), none, none, none, none], [], (hM m fi ar g, z)) = rI (pts (ar 0) sh r y) (hM m fi' ar' g, z) ∧ Sc [17] [0, 10, 11] fi ar fi' ar' ∧ ar' 0 = plc (ar 0) sh r x y := by
  obtain ⟨fi', ar', e, hS, hP⟩ := e_points (G := G) (m := m) (fi := fi) (ar := ar) (g := g) (z := z) hD hB h1 h2 h3 h4 h5 h6
  have h0 : ar' 0 = ar 0 := hS.2 0 (by decide)
  have hN := shN_b (sh := sh)
  have ht := (hB 2).1
  have hq := (hB 4).1
  have hsC : ∀ {k j : Nat}, k ≤ shN sh → (j < 33 ∨ 97 ≤ j) → setC (ar 0) sh r x y (2 + ar 0 4) k j = ar 0 j := fun hk hj => setC_n (fun q hq => hI q (by omega)) hj
  rw [b_X5_places_0]
  simp (disch := omega) only [mK, mgI6, mgI7, mgI13, mgI14, mgI15, mgI16, mgI17, mgI18, mgI19, mgI20, mgI21, mgI22, mgI23, mgI24, mgI25, mgI26, mgI27, mgR0, mgR1, mgR2, mgR3, mgR4, mgR5, mgR8, mgR9, mgR10, mgR11, mgR12, Option.bind_some, va_rf_some, va_rf_none, bI_rI, bI_rB, bV_rV, bB_0, bB_1, iI_add, iI_sub, iI_mul, iI_neg, rI_of, rV_of, Int.reduceToNat, Int.neg_neg, iI_lt, iI_le, iI_inj, Int.toNat_natCast, Int.lt_irrefl, if_true, if_false, reduceIte, e, mld0, h0]
  obtain ⟨a1, ⟨i1, i2, i3⟩, e1⟩ := lp_ik (N := shN sh) (I := fun k a => (∀ j, j ≠ 0 → a j = ar' j) ∧ a 0 = setC (ar 0) sh r x y (2 + ar 0 4) k ∧ True) (F := fun k a => t_Ev (t_pg G) t_hd Y_X5_places 33 ([some (.ref m), some (.int (iI sh)), some (.int (iI r)), some (.int (iI x)), some (.int (iI y)), some (.int (iI (pts (ar 0) sh r y))), some (.int (iI (ar 0 4))), some (.int (iI (225 + ar 0 4 * 6))), some (.int (iI (k : Int)))], [], (hM m fi' a g, z))) (fun k hk a ha => by
    have hk' : (k : Int) < (shN sh : Int) := by omega
    obtain ⟨r1, r2⟩ := hP.2 k hk
    obtain ⟨⟨p1, p2⟩, p3, p4⟩ := hI k hk
    have c10 := ha.1 10 (by decide)
    have c11 := ha.1 11 (by decide)
    refine ⟨aU a 0 (33 + (8 * cY sh r y k + cX sh r x k)).toNat (2 + ar 0 4), ⟨fun j hj => (aU_n hj).trans (ha.1 j hj), ?_, trivial⟩, ?_⟩
    · rw [aU_s, ha.2.1]; rfl
    · try dsimp only
      rw [b_X5_places_33]
      simp (disch := omega) only [mK, mgI6, mgI7, mgI13, mgI14, mgI15, mgI16, mgI17, mgI18, mgI19, mgI20, mgI21, mgI22, mgI23, mgI24, mgI25, mgI26, mgI27, mgR0, mgR1, mgR2, mgR3, mgR4, mgR5, mgR8, mgR9, mgR10, mgR11, mgR12, Option.bind_some, va_rf_some, va_rf_none, bI_rI, bI_rB, bV_rV, bB_0, bB_1, iI_add, iI_sub, iI_mul, iI_neg, rI_of, rV_of, Int.reduceToNat, Int.neg_neg, iI_lt, iI_le, iI_inj, Int.toNat_natCast, Int.lt_irrefl, if_true, if_false, reduceIte, mld10, mld11, mst0, hP.1, hk', c10, c11, r1, r2, e_at]
      (try rfl)) ar' ⟨fun _ _ => rfl, h0, trivial⟩
  refine ⟨fi', aU (aU (aU (aU (aU (aU (aU (aU (aU (aU (aU a1 0 (225 + ar 0 4 * 6).toNat sh) 0 (225 + ar 0 4 * 6 + 1).toNat r) 0 (225 + ar 0 4 * 6 + 2).toNat x) 0 (225 + ar 0 4 * 6 + 3).toNat y) 0 (225 + ar 0 4 * 6 + 4).toNat (ar 0 2)) 0 (225 + ar 0 4 * 6 + 5).toNat (pts (ar 0) sh r y)) 0 4 (ar 0 4 + 1)) 0 (plI (ar 0 2) 0).toNat (ofS (ar 0) (ar 0 2) 0 + pts (ar 0) sh r y)) 0 (plI (ar 0 2) (2 + sh)).toNat (ofS (ar 0) (ar 0 2) (2 + sh) - 1)) 0 2 (1 - ar 0 2)) 0 3 0, Eq.trans e1 ?_, ?_, ?_⟩
  rotate_left
  · refine Sc.trans (hS.mono (by decide) (by decide)) (f1 := fi') (a1 := ar') ⟨fun _ _ => rfl, fun j hj => ?_⟩
    have hj0 : j ≠ 0 := fun q => hj (by rw [q]; decide)
    exact (i1 j hj0) ▸ (show aU (aU (aU (aU (aU (aU (aU (aU (aU (aU (aU a1 0 (225 + ar 0 4 * 6).toNat sh) 0 (225 + ar 0 4 * 6 + 1).toNat r) 0 (225 + ar 0 4 * 6 + 2).toNat x) 0 (225 + ar 0 4 * 6 + 3).toNat y) 0 (225 + ar 0 4 * 6 + 4).toNat (ar 0 2)) 0 (225 + ar 0 4 * 6 + 5).toNat (pts (ar 0) sh r y)) 0 4 (ar 0 4 + 1)) 0 (plI (ar 0 2) 0).toNat (ofS (ar 0) (ar 0 2) 0 + pts (ar 0) sh r y)) 0 (plI (ar 0 2) (2 + sh)).toNat (ofS (ar 0) (ar 0 2) (2 + sh) - 1)) 0 2 (1 - ar 0 2)) 0 3 0 j = a1 j by simp only [aU, if_neg hj0])
  · simp only [aU_s, i2]
    (try rfl)
  · try dsimp only
    have b0 : setC (ar 0) sh r x y (2 + ar 0 4) (shN sh) 2 = ar 0 2 := hsC (Nat.le_refl _) (by omega)
    have b1 : setC (ar 0) sh r x y (2 + ar 0 4) (shN sh) 4 = ar 0 4 := hsC (Nat.le_refl _) (by omega)
    have b2 : setC (ar 0) sh r x y (2 + ar 0 4) (shN sh) (5 + ar 0 2 * 14 + 0).toNat = ofS (ar 0) (ar 0 2) 0 := hsC (Nat.le_refl _) (by omega)
    have b3 : setC (ar 0) sh r x y (2 + ar 0 4) (shN sh) (5 + ar 0 2 * 14 + (2 + sh)).toNat = ofS (ar 0) (ar 0 2) (2 + sh) := hsC (Nat.le_refl _) (by omega)
    have hpl : ∀ w, plI (ar 0 2) w = 5 + ar 0 2 * 14 + w := fun _ => rfl
    rw [b_X5_places_33]
    simp (disch := first | omega | (rw [hpl]; omega)) only [mK, mgI6, mgI7, mgI13, mgI14, mgI15, mgI16, mgI17, mgI18, mgI19, mgI20, mgI21, mgI22, mgI23, mgI24, mgI25, mgI26, mgI27, mgR0, mgR1, mgR2, mgR3, mgR4, mgR5, mgR8, mgR9, mgR10, mgR11, mgR12, Option.bind_some, va_rf_some, va_rf_none, bI_rI, bI_rB, bV_rV, bB_0, bB_1, iI_add, iI_sub, iI_mul, iI_neg, rI_of, rV_of, Int.reduceToNat, Int.neg_neg, iI_lt, iI_le, iI_inj, Int.toNat_natCast, Int.lt_irrefl, if_true, if_false, reduceIte, mld0, mst0, hP.1, aU_s, fU_s, fU_n, i2, b0, b1, e_of, e_put, e_turns, Int.add_zero]
    simp (disch := omega) only [hpl, ofS, aU_s, fU_s, fU_n, b0, b1, b2, b3]
theorem e_pieceOf (hB : RB (ar 0)) {x y : Int} (h1 : 0 ≤ x ∧ x ≤ 7) (h2 : 0 ≤ y ∧ y ≤ 7) : t_Ev (t_pg G) t_hd Y_X5_pieceOf 0 ([some (.ref m), some (.int (iI x)), some (.int (iI y))], [], (hM m fi ar g, z)) = rI (pOf (ar 0) x y) (hM m fi ar g, z) := by
  have hc := hB.c x y
  rw [b_X5_pieceOf_0]
  simp (disch := omega) only [mK, Option.bind_some, va_rf_some, va_rf_none, bI_rI, bI_rB, bV_rV, bB_0, bB_1, iI_add, iI_sub, iI_mul, iI_neg, rI_of, rV_of, Int.reduceToNat, Int.neg_neg, iI_lt, iI_le, iI_inj, Int.toNat_natCast, Int.lt_irrefl, if_true, if_false, reduceIte, e_cell]
  unfold pOf
  by_cases c : cI (ar 0) x y < 2
  · rw [if_pos c, if_neg (by omega)]
  · rw [if_neg c, if_pos (by omega)]
theorem pOf_b {s : tRow} (hB : RB s) {x y : Int} : -1 ≤ pOf s x y ∧ pOf s x y ≤ 1000000 := by
  have := hB.c x y
  unfold pOf
  split <;> omega
theorem e_mayFasten (hB : RB (ar 0)) (hT : ar 0 2 ≤ 1) {x y d : Int} (h1 : 0 ≤ x ∧ x ≤ 7) (h2 : 0 ≤ y ∧ y ≤ 7) (h3 : 0 ≤ d ∧ d ≤ 1) (h4 : 0 ≤ bey0 x d ∧ bey0 x d ≤ 7) (h5 : 0 ≤ bey1 y d ∧ bey1 y d ≤ 7) : t_Ev (t_pg G) t_hd Y_X5_mayFasten 0 ([some (.ref m), some (.int (iI x)), some (.int (iI y)), some (.int (iI d)), none, none], [], (hM m fi ar g, z)) = rB (mayF (ar 0) x y d) (hM m fi ar g, z) := by
  have ht := (hB 2).1
  have e0 : t_Ev (t_pg G) t_hd Y_X5_mayFasten 0 ([some (.ref m), some (.int (iI x)), some (.int (iI y)), some (.int (iI d)), none, none], [], (hM m fi ar g, z)) = t_Ev (t_pg G) t_hd Y_X5_mayFasten 24 ([some (.ref m), some (.int (iI x)), some (.int (iI y)), some (.int (iI d)), some (.int (iI (bey0 x d))), none], [.int (iI (bey1 y d))], (hM m fi ar g, z)) := by
    rw [b_X5_mayFasten_0]
    unfold bey0 bey1
    by_cases c : d = 0
    · subst c
      rw [if_pos rfl, b_X5_mayFasten_11, if_pos rfl]
      simp only [Option.bind_some, va_rf_some, va_rf_none, bI_rI, bI_rB, bV_rV, bB_0, bB_1, iI_add, iI_sub, iI_mul, iI_neg, rI_of, rV_of, Int.reduceToNat, Int.neg_neg, if_true]
    · have c' : ¬ iI d = iI 0 := by rw [iI_inj (by omega) (by omega) (by omega) (by omega)]; exact c
      rw [if_neg c', b_X5_mayFasten_11, if_neg c']
      simp only [Option.bind_some, va_rf_some, va_rf_none, bI_rI, bI_rB, bV_rV, bB_0, bB_1, iI_add, iI_sub, iI_mul, iI_neg, rI_of, rV_of, Int.reduceToNat, Int.neg_neg, if_neg c]
  rw [e0, b_X5_mayFasten_24]
  unfold mayF
  have hc1 := hB.c x y
  have hc2 := hB.c (bey0 x d) (bey1 y d)
  have hp1 := pOf_b hB (x := x) (y := y)
  have hp2 := pOf_b hB (x := bey0 x d) (y := bey1 y d)
  have ho : 0 ≤ ofS (ar 0) (ar 0 2) 1 ∧ ofS (ar 0) (ar 0 2) 1 ≤ 1000000 := hB _
  simp (maxSteps := 2000000) (disch := first | omega | exact hB | (unfold plI; omega)) only [mK, mgI6, mgI7, mgI13, mgI14, mgI15, mgI16, mgI17, mgI18, mgI19, mgI20, mgI21, mgI22, mgI23, mgI24, mgI25, mgI26, mgI27, mgR0, mgR1, mgR2, mgR3, mgR4, mgR5, mgR8, mgR9, mgR10, mgR11, mgR12, Option.bind_some, va_rf_some, va_rf_none, bI_rI, bI_rB, bV_rV, bB_0, bB_1, iI_add, iI_sub, iI_mul, iI_neg, rI_of, rV_of, Int.reduceToNat, Int.neg_neg, iI_lt, iI_le, iI_inj, Int.toNat_natCast, Int.lt_irrefl, if_true, if_false, reduceIte, e_over, mld0, e_of, e_isStrapped, e_cell, e_pieceOf]
  cases ovr (ar 0) with
  | true => rfl
  | false =>
    by_cases q1 : ofS (ar 0) (ar 0 2) 1 = 0
    · simp [q1, rB, bB]
    cases stN (ar 0) x y (bey0 x d) (bey1 y d) with
    | true => simp [q1, rB, bB]
    | false =>
      by_cases q2 : cI (ar 0) x y = 1
      · simp [q1, q2, rB, bB]
      by_cases q3 : cI (ar 0) (bey0 x d) (bey1 y d) = 1
      · simp [q1, q2, q3, rB, bB]
      by_cases q4 : pOf (ar 0) x y = -1
      · simp [q1, q2, q3, q4, rB, bB]
      by_cases q5 : pOf (ar 0) x y = pOf (ar 0) (bey0 x d) (bey1 y d)
      · simp [q1, q2, q3, q4, ← q5, rB, bB]
      · simp [q1, q2, q3, q4, q5, rB, bB]
theorem e_fastens (hB : RB (ar 0)) (hT : ar 0 2 ≤ 1) {x y d : Int} (h1 : 0 ≤ x ∧ x ≤ 7) (h2 : 0 ≤ y ∧ y ≤ 7) (h3 : 0 ≤ d ∧ d ≤ 1) : ∃ ar', t_Ev (t_pg G) t_hd Y_X5_fastens 0 ([some (.ref m), some (.int (iI x)), some (.int (iI y)), some (.int (iI d)), none], [], (hM m fi ar g, z)) = rI (ofS (ar 0) (ar 0 2) 1 - 1) (hM m fi ar' g, z) ∧ Sc [] [0] fi ar fi ar' ∧ ar' 0 = fas (ar 0) x y d := by
  have ht := (hB 2).1
  have hd : 97 ≤ edI x y d ∧ edI x y d < 417 := by unfold edI; split <;> omega
  have hpl : ∀ w, plI (ar 0 2) w = 5 + ar 0 2 * 14 + w := fun _ => rfl
  refine ⟨aU (aU (aU (aU ar 0 (edI x y d).toNat 1) 0 (plI (ar 0 2) 1).toNat (ofS (ar 0) (ar 0 2) 1 - 1)) 0 2 (1 - ar 0 2)) 0 3 0, ?_, ⟨fun _ _ => rfl, fun j hj => ?_⟩, ?_⟩
  · rw [b_X5_fastens_0]
    simp (disch := first | omega | (simp only [plI, aU_s, fU_n]; omega) | (rw [aU_s, fU_n (by omega), hpl]; omega)) only [mK, mgI6, mgI7, mgI13, mgI14, mgI15, mgI16, mgI17, mgI18, mgI19, mgI20, mgI21, mgI22, mgI23, mgI24, mgI25, mgI26, mgI27, mgR0, mgR1, mgR2, mgR3, mgR4, mgR5, mgR8, mgR9, mgR10, mgR11, mgR12, Option.bind_some, va_rf_some, va_rf_none, bI_rI, bI_rB, bV_rV, bB_0, bB_1, iI_add, iI_sub, iI_mul, iI_neg, rI_of, rV_of, Int.reduceToNat, Int.neg_neg, e_edge, mld0, mst0, aU_s, fU_n, e_of, e_put, e_turns, ofS, hpl]
    (try rfl)
  · have hj0 : j ≠ 0 := fun q => hj (by rw [q]; decide)
    show aU (aU (aU (aU ar 0 (edI x y d).toNat 1) 0 (plI (ar 0 2) 1).toNat (ofS (ar 0) (ar 0 2) 1 - 1)) 0 2 (1 - ar 0 2)) 0 3 0 j = ar j
    simp only [aU, if_neg hj0]
  · simp only [aU_s]
    (try rfl)
theorem e_mayPass (hD : Dm (ar 0)) (hB : RB (ar 0)) (hT : ar 0 2 ≤ 1) : ∃ fi' ar', t_Ev (t_pg G) t_hd Y_X5_mayPass 0 ([some (.ref m)], [], (hM m fi ar g, z)) = rB (mayS (ar 0)) (hM m fi' ar' g, z) ∧ Sc [17] [10, 11] fi ar fi' ar' := by
  have ht := (hB 2).1
  have hm := movs_b hD (p := ar 0 2)
  obtain ⟨fi', ar', e, hS⟩ := e_moves (G := G) (m := m) (fi := fi) (ar := ar) (g := g) (z := z) hD hB ht hT
  rw [b_X5_mayPass_0]
  unfold mayS
  simp (disch := first | omega | exact hB) only [mK, mgI6, mgI7, mgI13, mgI14, mgI15, mgI16, mgI17, mgI18, mgI19, mgI20, mgI21, mgI22, mgI23, mgI24, mgI25, mgI26, mgI27, mgR0, mgR1, mgR2, mgR3, mgR4, mgR5, mgR8, mgR9, mgR10, mgR11, mgR12, Option.bind_some, va_rf_some, va_rf_none, bI_rI, bI_rB, bV_rV, bB_0, bB_1, iI_add, iI_sub, iI_mul, iI_neg, rI_of, rV_of, Int.reduceToNat, Int.neg_neg, iI_lt, iI_le, iI_inj, Int.toNat_natCast, Int.lt_irrefl, if_true, if_false, reduceIte, e_over, mld0, e]
  cases ovr (ar 0) with
  | true => exact ⟨fi, ar, rfl, Sc.refl⟩
  | false => exact ⟨fi', ar', by simp only [Bool.not_false, Bool.true_and, if_true, rB_dec], hS⟩
theorem e_passes : ∃ ar', t_Ev (t_pg G) t_hd Y_X5_passes 0 ([some (.ref m)], [], (hM m fi ar g, z)) = rI (ar 0 3 + 1) (hM m fi ar' g, z) ∧ Sc [] [0] fi ar fi ar' ∧ ar' 0 = pas (ar 0) := by
  refine ⟨aU (aU ar 0 3 (ar 0 3 + 1)) 0 2 (1 - ar 0 2), ?_, ⟨fun _ _ => rfl, fun j hj => ?_⟩, ?_⟩
  · rw [b_X5_passes_0]
    simp (disch := omega) only [mK, mgI6, mgI7, mgI13, mgI14, mgI15, mgI16, mgI17, mgI18, mgI19, mgI20, mgI21, mgI22, mgI23, mgI24, mgI25, mgI26, mgI27, mgR0, mgR1, mgR2, mgR3, mgR4, mgR5, mgR8, mgR9, mgR10, mgR11, mgR12, Option.bind_some, va_rf_some, va_rf_none, bI_rI, bI_rB, bV_rV, bB_0, bB_1, iI_add, iI_sub, iI_mul, iI_neg, rI_of, rV_of, Int.reduceToNat, Int.neg_neg, mld0, mst0, aU_s, fU_s, fU_n]
    (try rfl)
  · have hj0 : j ≠ 0 := fun q => hj (by rw [q]; decide)
    show aU (aU ar 0 3 (ar 0 3 + 1)) 0 2 (1 - ar 0 2) j = ar j
    simp only [aU, if_neg hj0]
  · simp only [aU_s]
    (try rfl)
end MQ
