/-! ===== consistency: nothing is wrong ===== -/
theorem sm_add {f g : Nat → Int} : ∀ {n : Nat}, sm (fun k => f k + g k) n = sm f n + sm g n := by
  intro n
  induction n with
  | zero => rfl
  | succ n ih => rw [sm, sm, sm, ih]; omega
theorem sm_const {c : Int} : ∀ {n : Nat}, sm (fun _ => c) n = n * c := by
  intro n
  induction n with
  | zero => simp [sm]
  | succ n ih => rw [sm, ih, Int.natCast_add, Int.add_mul]; omega
/-- each cell is empty, blocked or covered -/
theorem cw_all {s : tRow} (hD : Dm s) (hB : RB s) : cwN s 0 + cwN s 1 + cvN s = s 0 * s 1 := by
  have h0 := tn_of hD.1.1
  have h1 := tn_of hD.2.1
  have row : ∀ y : Nat, cwR s 0 y + cwR s 1 y + sm (fun x => bB (decide (2 ≤ cI s x y))) (s 0).toNat = s 0 := fun y => by
    unfold cwR
    rw [← sm_add, ← sm_add]
    have e : sm (fun x => bB (decide (cI s x y = 0)) + bB (decide (cI s x y = 1)) + bB (decide (2 ≤ cI s x y))) (s 0).toNat = sm (fun _ => 1) (s 0).toNat := sm_congr fun x _ => by
      have c := (hB.c x y).1
      by_cases c0 : cI s x y = 0
      · rw [decide_eq_true c0, decide_eq_false (by omega), decide_eq_false (by omega)]; rfl
      · by_cases c1 : cI s x y = 1
        · rw [decide_eq_false c0, decide_eq_true c1, decide_eq_false (by omega)]; rfl
        · rw [decide_eq_false c0, decide_eq_false c1, decide_eq_true (by omega)]; rfl
    rw [e, sm_const]
    omega
  unfold cwN cvN
  rw [← sm_add, ← sm_add, sm_congr (g := fun _ => s 0) (fun y _ => row y), sm_const, h1, Int.mul_comm]
/-- a strap lies between two cells of no piece -/
theorem Wf.nos {s : tRow} (w : Wf s) {x y d : Int} (hd : d = 0 ∨ d = 1) (he : isEd s x y d = true) (hs : stB s x y d = true) (hp : pOf s x y ≠ -1) : pOf s (bey0 x d) (bey1 y d) ≠ pOf s x y := by
  have c2 : 2 ≤ cI s x y := by
    unfold pOf at hp
    by_cases c : 2 ≤ cI s x y
    · exact c
    · rw [if_neg c] at hp; exact absurd rfl hp
  have n := w.sp.nx x y d hd he hs c2
  unfold pOf
  rw [if_pos c2]
  split <;> omega
/-- no piece lies across a strap -/
theorem crs_pc {s : tRow} (w : Wf s) {k : Nat} (hk : (k : Int) < s 4) : crs s (s (pcI k 0)) (s (pcI k 1)) (s (pcI k 2)) (s (pcI k 3)) = false := by
  have pd := w.bd.pd k hk
  obtain ⟨sh, hsh⟩ : ∃ sh, sh = s (pcI k 0) := ⟨_, rfl⟩
  obtain ⟨r, hr⟩ : ∃ r, r = s (pcI k 1) := ⟨_, rfl⟩
  obtain ⟨x, hx⟩ : ∃ x, x = s (pcI k 2) := ⟨_, rfl⟩
  obtain ⟨y, hy⟩ : ∃ y, y = s (pcI k 3) := ⟨_, rfl⟩
  rw [← hsh, ← hr, ← hx, ← hy] at pd
  rw [← hsh, ← hr, ← hx, ← hy]
  clear hsh hr hx hy
  unfold crs
  refine an_false.mpr fun a ha => an_false.mpr fun b hb => ?_
  obtain ⟨ia, ca⟩ := pd a ha
  obtain ⟨ib, cb⟩ := pd b (by omega)
  generalize cX sh r x a = xa at ia ca ⊢
  generalize cY sh r y a = ya at ia ca ⊢
  generalize cX sh r x b = xb at ib cb ⊢
  generalize cY sh r y b = yb at ib cb ⊢
  have jA := inB_iff.mp ia
  have jB := inB_iff.mp ib
  cases hn : nei xa ya xb yb with
  | false => rfl
  | true =>
    rw [Bool.true_and]
    refine Bool.eq_false_iff.mpr fun hs => ?_
    unfold stN at hs
    rcases nei_iff.mp hn with ⟨h1, h2⟩ | ⟨h1, h2⟩ | ⟨h1, h2⟩ | ⟨h1, h2⟩
    · rw [if_pos h2.symm, Int.min_eq_left (by omega), Int.min_eq_left (by omega)] at hs
      have := w.sp.nx xa ya 0 (Or.inl rfl) (by rw [isEd_bey (by decide) (by decide), ia, show bey0 xa 0 = xb from h1.symm, show bey1 ya 0 = yb from h2.symm, ib]; rfl) hs (by omega)
      rw [show bey0 xa 0 = xb from h1.symm, show bey1 ya 0 = yb from h2.symm] at this
      omega
    · rw [if_pos h2.symm, Int.min_eq_right (by omega), Int.min_eq_right (by omega)] at hs
      have := w.sp.nx xb yb 0 (Or.inl rfl) (by rw [isEd_bey (by decide) (by decide), ib, show bey0 xb 0 = xa from h1.symm, show bey1 yb 0 = ya from h2, ia]; rfl) hs (by omega)
      rw [show bey0 xb 0 = xa from h1.symm, show bey1 yb 0 = ya from h2] at this
      omega
    · rw [if_neg (by omega), Int.min_eq_left (by omega), Int.min_eq_left (by omega)] at hs
      have := w.sp.nx xa ya 1 (Or.inr rfl) (by rw [isEd_bey (by decide) (by decide), ia, show bey0 xa 1 = xb from h1.symm, show bey1 ya 1 = yb from h2.symm, ib]; rfl) hs (by omega)
      rw [show bey0 xa 1 = xb from h1.symm, show bey1 ya 1 = yb from h2.symm] at this
      omega
    · rw [if_neg (by omega), Int.min_eq_right (by omega), Int.min_eq_right (by omega)] at hs
      have := w.sp.nx xb yb 1 (Or.inr rfl) (by rw [isEd_bey (by decide) (by decide), ib, show bey0 xb 1 = xa from h1, show bey1 yb 1 = ya from h2.symm, ia]; rfl) hs (by omega)
      rw [show bey0 xb 1 = xa from h1, show bey1 yb 1 = ya from h2.symm] at this
      omega
section MCN
variable {G : tG} {m : Nat} {fi : Nat → Int} {ar : Nat → Nat → Int} {g : tAH} {z : Nat × Nat}
/-- what is counted -/
def cnP (v c : Int) : Bool := if v = 2 then decide (2 ≤ c) else decide (c = v)
def cnR (s : tRow) (v y : Int) : Int := sm (fun x => bB (cnP v (cI s x y))) (s 0).toNat
def cnN (s : tRow) (v : Int) : Int := sm (fun y => cnR s v y) (s 1).toNat
theorem cnN_1 {s : tRow} : cnN s 1 = cwN s 1 := rfl
theorem cnN_2 {s : tRow} : cnN s 2 = cvN s := rfl
theorem e_cnt17 (hD : Dm (ar 0)) (hB : RB (ar 0)) {v y q : Int} (hv : v = 1 ∨ v = 2) (h1 : 0 ≤ y ∧ y ≤ 7) : t_Ev (t_pg G) t_hd Y_X5_counted 17 ([some (.ref m), some (.int (iI v)), some (.int (iI q)), some (.int (iI y)), some (.int (iI 0))], [], (hM m fi ar g, z)) = t_Ev (t_pg G) t_hd Y_X5_counted 4 ([some (.ref m), some (.int (iI v)), some (.int (iI (q + cnR (ar 0) v y))), some (.int (iI (y + 1))), some (.int (iI (ar 0 0)))], [], (hM m fi ar g, z)) := by
  have hd := hD.1
  have hn := tn_of hd.1
  have lo := lp_up (N := (ar 0 0).toNat) (F := fun k => t_Ev (t_pg G) t_hd Y_X5_counted 17 ([some (.ref m), some (.int (iI v)), some (.int (iI (q + sm (fun x => bB (cnP v (cI (ar 0) x y))) k))), some (.int (iI y)), some (.int (iI (k : Int)))], [], (hM m fi ar g, z))) fun k hk => by
    have hc := hB.c k y
    rw [b_X5_counted_17]
    simp (disch := omega) only [mK, mgI6, mgI7, mgI13, mgI14, mgI15, mgI16, mgI17, mgI18, mgI19, mgI20, mgI21, mgI22, mgI23, mgI24, mgI25, mgI26, mgI27, mgR0, mgR1, mgR2, mgR3, mgR4, mgR5, mgR8, mgR9, mgR10, mgR11, mgR12, Option.bind_some, va_rf_some, va_rf_none, bI_rI, bI_rB, bV_rV, bB_0, bB_1, iI_add, iI_sub, iI_mul, iI_neg, rI_of, rV_of, Int.reduceToNat, Int.neg_neg, mld0, iI_lt, sm]
    rw [if_pos (show (k : Int) < ar 0 0 by omega), e_cell (by omega) (by omega) (by omega) (by omega), bI_rI, bI_rI]
    unfold cnP
    rcases hv with rfl | rfl
    · rw [if_neg (show ¬ iI 1 = iI 2 by decide), if_neg (show ¬ (1 : Int) = 2 by decide)]
      simp (disch := omega) only [iI_inj]
      by_cases c : cI (ar 0) k y = 1
      · rw [if_pos c, decide_eq_true c, ← Int.add_assoc]; rfl
      · rw [if_neg c, decide_eq_false c, bB_f, Int.add_zero]; rfl
    · rw [if_pos (show iI 2 = iI 2 from rfl), if_pos (show (2 : Int) = 2 from rfl)]
      simp (disch := omega) only [iI_lt]
      by_cases c : cI (ar 0) k y < 2
      · rw [if_pos c, decide_eq_false (by omega), bB_f, Int.add_zero]; rfl
      · rw [if_neg c, decide_eq_true (by omega), ← Int.add_assoc]; rfl
  dsimp only [sm] at lo
  rw [Int.add_zero] at lo
  refine Eq.trans lo ?_
  rw [b_X5_counted_17]
  simp (disch := omega) only [mK, mgI6, mgI7, mgI13, mgI14, mgI15, mgI16, mgI17, mgI18, mgI19, mgI20, mgI21, mgI22, mgI23, mgI24, mgI25, mgI26, mgI27, mgR0, mgR1, mgR2, mgR3, mgR4, mgR5, mgR8, mgR9, mgR10, mgR11, mgR12, Option.bind_some, va_rf_some, va_rf_none, bI_rI, bI_rB, bV_rV, bB_0, bB_1, iI_add, iI_sub, iI_mul, iI_neg, rI_of, rV_of, Int.reduceToNat, Int.neg_neg, mld0, iI_lt]
  rw [if_neg (by omega), hn]
  rfl
theorem e_counted (hD : Dm (ar 0)) (hB : RB (ar 0)) {v : Int} (hv : v = 1 ∨ v = 2) : t_Ev (t_pg G) t_hd Y_X5_counted 0 ([some (.ref m), some (.int (iI v)), none, none, none], [], (hM m fi ar g, z)) = rI (cnN (ar 0) v) (hM m fi ar g, z) := by
  have hd := hD.2
  have hn := tn_of hd.1
  have lo := lp_up (N := (ar 0 1).toNat) (F := fun k => t_Ev (t_pg G) t_hd Y_X5_counted 4 ([some (.ref m), some (.int (iI v)), some (.int (iI (sm (fun y => cnR (ar 0) v y) k))), some (.int (iI (k : Int))), (if k = 0 then none else some (.int (iI (ar 0 0))))], [], (hM m fi ar g, z))) fun k hk => by
    rw [b_X5_counted_4]
    simp (disch := omega) only [mK, mgI6, mgI7, mgI13, mgI14, mgI15, mgI16, mgI17, mgI18, mgI19, mgI20, mgI21, mgI22, mgI23, mgI24, mgI25, mgI26, mgI27, mgR0, mgR1, mgR2, mgR3, mgR4, mgR5, mgR8, mgR9, mgR10, mgR11, mgR12, Option.bind_some, va_rf_some, va_rf_none, bI_rI, bI_rB, bV_rV, bB_0, bB_1, iI_add, iI_sub, iI_mul, iI_neg, rI_of, rV_of, Int.reduceToNat, Int.neg_neg, mld0, iI_lt]
    rw [if_pos (show (k : Int) < ar 0 1 by omega), e_cnt17 hD hB hv (by omega), if_neg (Nat.succ_ne_zero k)]
    rfl
  rw [b_X5_counted_0]
  refine Eq.trans lo ?_
  try dsimp only
  rw [b_X5_counted_4]
  simp (disch := omega) only [mK, mgI6, mgI7, mgI13, mgI14, mgI15, mgI16, mgI17, mgI18, mgI19, mgI20, mgI21, mgI22, mgI23, mgI24, mgI25, mgI26, mgI27, mgR0, mgR1, mgR2, mgR3, mgR4, mgR5, mgR8, mgR9, mgR10, mgR11, mgR12, Option.bind_some, va_rf_some, va_rf_none, bI_rI, bI_rB, bV_rV, bB_0, bB_1, iI_add, iI_sub, iI_mul, iI_neg, rI_of, rV_of, Int.reduceToNat, Int.neg_neg, mld0, iI_lt]
  rw [if_neg (by omega)]
  rfl
theorem e_crossed (w : Wf (ar 0)) : t_Ev (t_pg G) t_hd Y_X5_crossed 0 ([some (.ref m), none, none, none, none], [], (hM m fi ar g, z)) = rI 0 (hM m fi ar g, z) := by
  have hD := w.bd.dm
  have hB := w.rb
  have h0 := tn_of hD.1.1
  have h1 := tn_of hD.2.1
  have hD0 := hD.1
  have hD1 := hD.2
  have side : ∀ (x y d : Int) (hi : inB (ar 0) x y = true) (hd : d = 0 ∨ d = 1) (hp : pOf (ar 0) x y ≠ -1) (X Y) (eX : X = iI (bey0 x d)) (eY : Y = iI (bey1 y d)) {A B : tHS → Option tRS}, bndI (t_Ev (t_pg G) t_hd Y_X5_isEdge 0 ([some (.ref m), some (.int (iI x)), some (.int (iI y)), some (.int (iI d))], [], (hM m fi ar g, z))) (fun x_8 hs_7 => if x_8 = iI 0 then A hs_7 else (gfR hs_7.1 (.ref m) 1 0).bind fun o_9 => bndI (t_Ev (t_pg G) t_hd Y_X5_edge 0 ([some (.int (iI x)), some (.int (iI y)), some (.int (iI d))], [], hs_7)) (fun x_11 hs_10 => (ldI hs_10.1 (va_rf o_9) x_11 0 0).bind fun x_12 => if x_12 = (iI 1) then (t_kN hs_10.1 (.ref m) 1).bind fun a_13 => bndI (t_Ev (t_pg G) t_hd Y_X5_pieceOf 0 ([some (.ref a_13), (some (.int X)), (some (.int Y))], [], hs_10)) (fun x_15 hs_14 => if x_15 = iI (pOf (ar 0) x y) then B hs_14 else A hs_14) tX else A hs_10) tX) tX = A (hM m fi ar g, z) := by
    intro x y d hi hd hp X Y eX eY A B
    subst eX eY
    have b := inB_7 hD hi
    rw [e_isEdge hD (by omega) (by omega) (by omega) (by omega) (by omega) (by omega), bI_rB]
    simp only [bB_0]
    cases he : isEd (ar 0) x y d with
    | false => rw [if_pos rfl]
    | true =>
      have hb := isEd_b hD he hd
      have st := hB (edI x y d).toNat
      have pb := pOf_b hB (x := x) (y := y)
      have pb2 := pOf_b hB (x := bey0 x d) (y := bey1 y d)
      rw [if_neg (by decide), mgR0, Option.bind_some, e_edge (by omega) (by omega), bI_rI, va_rf_some, mld0 hb.2.2.2.2.1 hb.2.2.2.2.2, Option.bind_some]
      simp (disch := omega) only [iI_inj]
      by_cases c : ar 0 (edI x y d).toNat = 1
      · have n := w.nos hd he (decide_eq_true c) hp
        rw [if_pos c, mK, Option.bind_some, e_pieceOf hB hb.2.2.1 hb.2.2.2.1, bI_rI]
        simp (disch := omega) only [iI_inj]
        rw [if_neg n]
      · rw [if_neg c]
  have t16 : ∀ y : Int, 0 ≤ y → y < ar 0 1 → ∀ u : Option Value, ∃ u', t_Ev (t_pg G) t_hd Y_X5_crossed 16 ([some (.ref m), some (.int (iI 0)), some (.int (iI y)), some (.int (iI 0)), u], [], (hM m fi ar g, z)) = t_Ev (t_pg G) t_hd Y_X5_crossed 4 ([some (.ref m), some (.int (iI 0)), some (.int (iI (y + 1))), some (.int (iI (ar 0 0))), u'], [], (hM m fi ar g, z)) := by
    intro y y0 y1 u
    obtain ⟨u', e⟩ := lp_e0 (N := (ar 0 0).toNat) (F := fun k (c : Option Value) => t_Ev (t_pg G) t_hd Y_X5_crossed 16 ([some (.ref m), some (.int (iI 0)), some (.int (iI y)), some (.int (iI (k : Int))), c], [], (hM m fi ar g, z))) (fun k hk c => by
      have hi : inB (ar 0) k y = true := inB_iff.mpr (by omega)
      have pb := pOf_b hB (x := (k : Int)) (y := y)
      refine ⟨some (.int (iI (pOf (ar 0) k y))), ?_⟩
      rw [b_X5_crossed_16]
      simp (disch := omega) only [mK, mgI6, mgI7, mgI13, mgI14, mgI15, mgI16, mgI17, mgI18, mgI19, mgI20, mgI21, mgI22, mgI23, mgI24, mgI25, mgI26, mgI27, mgR0, mgR1, mgR2, mgR3, mgR4, mgR5, mgR8, mgR9, mgR10, mgR11, mgR12, Option.bind_some, va_rf_some, va_rf_none, bI_rI, bI_rB, bV_rV, bB_0, bB_1, iI_add, iI_sub, iI_mul, iI_neg, rI_of, rV_of, Int.reduceToNat, Int.neg_neg, mld0, iI_lt]
      rw [if_pos (show (k : Int) < ar 0 0 by omega), e_pieceOf hB (by omega) (by omega), bI_rI]
      simp (disch := omega) only [iI_inj]
      by_cases c1 : pOf (ar 0) k y = -1
      · rw [if_pos c1, c1]; rfl
      · rw [if_neg c1, mK, Option.bind_some]
        refine (side k y 0 hi (Or.inl rfl) c1 _ _ rfl rfl).trans ?_
        rw [b_X5_crossed_84, mK, Option.bind_some]
        refine (side k y 1 hi (Or.inr rfl) c1 _ _ rfl (iI_add _ _)).trans ?_
        rw [iI_add]
        rfl) u
    refine ⟨u', Eq.trans e ?_⟩
    rw [b_X5_crossed_16]
    simp (disch := omega) only [mK, mgI6, mgI7, mgI13, mgI14, mgI15, mgI16, mgI17, mgI18, mgI19, mgI20, mgI21, mgI22, mgI23, mgI24, mgI25, mgI26, mgI27, mgR0, mgR1, mgR2, mgR3, mgR4, mgR5, mgR8, mgR9, mgR10, mgR11, mgR12, Option.bind_some, va_rf_some, va_rf_none, bI_rI, bI_rB, bV_rV, bB_0, bB_1, iI_add, iI_sub, iI_mul, iI_neg, rI_of, rV_of, Int.reduceToNat, Int.neg_neg, mld0, iI_lt]
    rw [if_neg (by omega), h0]
  obtain ⟨⟨u1, u2⟩, e⟩ := lp_e0 (N := (ar 0 1).toNat) (F := fun k (c : Option Value × Option Value) => t_Ev (t_pg G) t_hd Y_X5_crossed 4 ([some (.ref m), some (.int (iI 0)), some (.int (iI (k : Int))), c.1, c.2], [], (hM m fi ar g, z))) (fun k hk c => by
    obtain ⟨u', e'⟩ := t16 k (by omega) (by omega) c.2
    refine ⟨(some (.int (iI (ar 0 0))), u'), ?_⟩
    try dsimp only
    rw [b_X5_crossed_4]
    simp (disch := omega) only [mK, mgI6, mgI7, mgI13, mgI14, mgI15, mgI16, mgI17, mgI18, mgI19, mgI20, mgI21, mgI22, mgI23, mgI24, mgI25, mgI26, mgI27, mgR0, mgR1, mgR2, mgR3, mgR4, mgR5, mgR8, mgR9, mgR10, mgR11, mgR12, Option.bind_some, va_rf_some, va_rf_none, bI_rI, bI_rB, bV_rV, bB_0, bB_1, iI_add, iI_sub, iI_mul, iI_neg, rI_of, rV_of, Int.reduceToNat, Int.neg_neg, mld0, iI_lt]
    rw [if_pos (show (k : Int) < ar 0 1 by omega)]
    exact e') (none, none)
  rw [b_X5_crossed_0]
  refine Eq.trans e ?_
  try dsimp only
  rw [b_X5_crossed_4]
  simp (disch := omega) only [mK, mgI6, mgI7, mgI13, mgI14, mgI15, mgI16, mgI17, mgI18, mgI19, mgI20, mgI21, mgI22, mgI23, mgI24, mgI25, mgI26, mgI27, mgR0, mgR1, mgR2, mgR3, mgR4, mgR5, mgR8, mgR9, mgR10, mgR11, mgR12, Option.bind_some, va_rf_some, va_rf_none, bI_rI, bI_rB, bV_rV, bB_0, bB_1, iI_add, iI_sub, iI_mul, iI_neg, rI_of, rV_of, Int.reduceToNat, Int.neg_neg, mld0, iI_lt]
  rw [if_neg (by omega)]
theorem cvN_b {s : tRow} (b : BdP s) : 0 ≤ cvN s ∧ cvN s ≤ 64 := by
  refine ⟨?_, cvN_le b.dm⟩
  exact sm_ge fun y _ => sm_ge fun x _ => bB_ge
theorem m_inconsistencies (md : Md fi ar) {kc : Nat → Int} : MQr m g z fi ar kc (t_Ev (t_pg G) t_hd Y_X5_inconsistencies 0 ([some (.ref m), none, none, none], [], (hM m fi ar g, z))) (.inr 0) := MQr.v7 (by
  have np := md.w.bd.np
  have pb := ptN_b md.w.bd
  have cb := cvN_b md.w.bd
  have hn := tn_of np.1
  have sz := md.w.bd.cv
  have sum := md.w.sc.sum
  have s0 := md.w.sc.s0
  have s1 := md.w.sc.s1
  rw [b_X5_inconsistencies_0, mpI7, Option.bind_some]
  have lo := lp_up (N := (ar 0 4).toNat) (F := fun k => t_Ev (t_pg G) t_hd Y_X5_inconsistencies 11 ([some (.ref m), some (.int (iI (sm (fun k => ar 0 (pcI k 5)) k))), some (.int (iI (sm (fun k => (shN (ar 0 (pcI k 0)) : Int)) k))), some (.int (iI (k : Int)))], [], (hM m (fU fi 7 0) ar g, z))) fun k hk => by
    have pc := md.w.bd.pc k (by omega)
    rw [b_X5_inconsistencies_11]
    simp (disch := omega) only [mK, mgI6, mgI7, mgI13, mgI14, mgI15, mgI16, mgI17, mgI18, mgI19, mgI20, mgI21, mgI22, mgI23, mgI24, mgI25, mgI26, mgI27, mgR0, mgR1, mgR2, mgR3, mgR4, mgR5, mgR8, mgR9, mgR10, mgR11, mgR12, Option.bind_some, va_rf_some, va_rf_none, bI_rI, bI_rB, bV_rV, bB_0, bB_1, iI_add, iI_sub, iI_mul, iI_neg, rI_of, rV_of, Int.reduceToNat, Int.neg_neg, mld0, iI_lt]
    rw [if_pos (show (k : Int) < ar 0 4 by omega), show (225 + (k : Int) * 6 + 5).toNat = pcI k 5 by unfold pcI; omega, show (225 + (k : Int) * 6 + 0).toNat = pcI k 0 by unfold pcI; omega, e_sizeOf pc.1.1 pc.1.2, bI_rI]
    simp only [iI_add, sm]
    (try rfl)
  refine Eq.trans lo ?_
  try dsimp only
  have e1 : sm (fun k => ar 0 (pcI k 5)) (ar 0 4).toNat = ptN (ar 0) := rfl
  have e2 : sm (fun k => (shN (ar 0 (pcI k 0)) : Int)) (ar 0 4).toNat = szN (ar 0) := rfl
  rw [e1, e2, b_X5_inconsistencies_11]
  simp (disch := omega) only [mK, mgI6, mgI7, mgI13, mgI14, mgI15, mgI16, mgI17, mgI18, mgI19, mgI20, mgI21, mgI22, mgI23, mgI24, mgI25, mgI26, mgI27, mgR0, mgR1, mgR2, mgR3, mgR4, mgR5, mgR8, mgR9, mgR10, mgR11, mgR12, Option.bind_some, va_rf_some, va_rf_none, bI_rI, bI_rB, bV_rV, bB_0, bB_1, iI_add, iI_sub, iI_mul, iI_neg, rI_of, rV_of, Int.reduceToNat, Int.neg_neg, mld0, iI_lt]
  rw [if_neg (by omega), e_of (by decide) (by decide), bI_rI, mK, Option.bind_some, e_of (by decide) (by decide), bI_rI]
  simp only [iI_sub]
  rw [show ptN (ar 0) - ofS (ar 0) 0 0 - ofS (ar 0) 1 0 = 0 by omega, e_abs (by decide) (by decide), bI_rI, mK, Option.bind_some, e_crossed md.w, bI_rI, mK, Option.bind_some, e_counted md.w.bd.dm md.w.rb (Or.inr rfl), bI_rI, cnN_2]
  simp only [iI_sub]
  rw [show szN (ar 0) - cvN (ar 0) = 0 by omega, e_abs (by decide) (by decide), bI_rI]
  rfl)
/-- the covered cells' part -/
def cvD (s : tRow) : UInt64 := if s 0 * s 1 - cwN s 1 = 0 then FP.dconst0 else FP.ddiv (FP.i2d (iI (cvN s))) (FP.i2d (iI (s 0 * s 1 - cwN s 1)))
def rD (d : UInt64) (hs : tHS) : Option tRS := some (.inl (some (.double d)), hs)
def rF (d : UInt32) (hs : tHS) : Option tRS := some (.inl (some (.float d)), hs)
theorem cw_b {s : tRow} (b : BdP s) : 0 ≤ s 0 * s 1 - cwN s 1 ∧ s 0 * s 1 - cwN s 1 ≤ 64 := by
  have d0 := b.d0
  have d1 := b.d1
  have h1 := tn_of (a := s 1) (by omega)
  have h0 := tn_of (a := s 0) (by omega)
  have p : s 0 * s 1 ≤ 64 := Int.le_trans (Int.mul_le_mul d0.2 d1.2 (by omega) (by decide)) (by decide)
  have ge : 0 ≤ cwN s 1 := sm_ge fun y _ => sm_ge fun x _ => bB_ge
  have le : cwN s 1 ≤ s 0 * s 1 := by
    have : cwN s 1 ≤ ((s 1).toNat : Int) * s 0 := sm_le fun y _ => by
      have : cwR s 1 y ≤ ((s 0).toNat : Int) * 1 := sm_le fun x _ => bB_le
      omega
    rw [h1, Int.mul_comm] at this
    exact this
  omega
theorem cvD_ok {s : tRow} (b : BdP s) (h : s 0 * s 1 - cwN s 1 ≠ 0) : FP.ddiv (FP.i2d (iI (cvN s))) (FP.i2d (iI (s 0 * s 1 - cwN s 1))) &&& 0x7fffffffffffffff ≤ 0x7ff0000000000000 := by
  have c := cvN_b b
  have q := cw_b b
  have := dd_ok (cvN s).toNat (by omega) (s 0 * s 1 - cwN s 1).toNat (by omega) (by omega)
  rw [Int.toNat_of_nonneg c.1, Int.toNat_of_nonneg q.1] at this
  exact this
theorem m_coverage (md : Md fi ar) : t_Ev (t_pg G) t_hd Y_X5_coverage 0 ([some (.ref m), none], [], (hM m fi ar g, z)) = rD (cvD (ar 0)) (hM m (fU fi 7 0) ar g, z) := by
  have q := cw_b md.w.bd
  rw [b_X5_coverage_0, mpI7, Option.bind_some]
  simp (disch := omega) only [mK, mgI6, mgI7, mgI13, mgI14, mgI15, mgI16, mgI17, mgI18, mgI19, mgI20, mgI21, mgI22, mgI23, mgI24, mgI25, mgI26, mgI27, mgR0, mgR1, mgR2, mgR3, mgR4, mgR5, mgR8, mgR9, mgR10, mgR11, mgR12, Option.bind_some, va_rf_some, va_rf_none, bI_rI, bI_rB, bV_rV, bB_0, bB_1, iI_add, iI_sub, iI_mul, iI_neg, rI_of, rV_of, Int.reduceToNat, Int.neg_neg, mld0]
  rw [e_counted md.w.bd.dm md.w.rb (Or.inl rfl), bI_rI, cnN_1]
  simp (disch := omega) only [iI_sub, iI_inj]
  unfold cvD
  by_cases c : ar 0 0 * ar 0 1 - cwN (ar 0) 1 = 0
  · rw [if_pos c, if_pos c]; rfl
  · rw [if_neg c, if_neg c, mK, Option.bind_some, e_counted md.w.bd.dm md.w.rb (Or.inr rfl), bI_rI, cnN_2, if_pos (cvD_ok md.w.bd c)]
    rfl
end MCN
