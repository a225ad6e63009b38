/-! ===== the model's queries ===== -/
abbrev QI : List Nat := [7, 17, 24, 25, 26, 27]
abbrev QA : List Nat := [1, 10, 11, 12]
/-- a query's answer by the model; kc: the numbers of its exceptions -/
def MQr (m : Nat) (g : tAH) (z : Nat × Nat) (fi : Nat → Int) (ar : Nat → Nat → Int) (kc : Nat → Int) (E : Option tRS) (r : Nat ⊕ Int) : Prop := ∃ fi' ar' v, E = rI v (hM m fi' ar' g, z) ∧ Sc QI QA fi ar fi' ar' ∧ (match r with
  | .inl κ => fi' 7 = kc κ
  | .inr w => fi' 7 = 0 ∧ v = w)
def kcA (κ : Nat) : Int := if κ = 15 then 1 else if κ = 17 then 2 else 3
def kcB (κ : Nat) : Int := if κ = 17 then 1 else 2
section MQS
variable {G : tG} {m : Nat} {fi : Nat → Int} {ar : Nat → Nat → Int} {g : tAH} {z : Nat × Nat} {kc : Nat → Int}
theorem MQr.v {E : Option tRS} {fi' : Nat → Int} {ar' : Nat → Nat → Int} {w : Int} (e : E = rI w (hM m fi' ar' g, z)) (s : Sc QI QA fi ar fi' ar') (h : fi' 7 = 0) : MQr m g z fi ar kc E (.inr w) := ⟨fi', ar', w, e, s, h, rfl⟩
theorem MQr.t {E : Option tRS} {fi' : Nat → Int} {ar' : Nat → Nat → Int} {w : Int} {κ : Nat} (e : E = rI w (hM m fi' ar' g, z)) (s : Sc QI QA fi ar fi' ar') (h : fi' 7 = kc κ) : MQr m g z fi ar kc E (.inl κ) := ⟨fi', ar', w, e, s, h⟩
theorem q7_Sc {c : Int} : Sc QI QA fi ar (fU fi 7 c) ar := Sc.refl.fU (by decide)
theorem Sc.q17 {f0 : Nat → Int} {a0 : Nat → Nat → Int} (h : Sc [17] [10, 11] fi ar f0 a0) : Sc QI QA fi ar f0 a0 := h.mono (by decide) (by decide)
theorem MQr.v7 {E : Option tRS} {w : Int} (e : E = rI w (hM m (fU fi 7 0) ar g, z)) : MQr m g z fi ar kc E (.inr w) := MQr.v e q7_Sc fU_s
theorem MQr.t7 {E : Option tRS} {w c : Int} {κ : Nat} (e : E = rI w (hM m (fU fi 7 c) ar g, z)) (h : c = kc κ) : MQr m g z fi ar kc E (.inl κ) := MQr.t e q7_Sc (fU_s.trans h)
theorem ef1 {b c : Int} : t_Ev (t_pg G) t_hd Y_X5_fails 0 ([some (.ref m), some (.int (iI 1)), some (.int (iI b)), some (.int (iI c))], [], (hM m fi ar g, z)) = rI 1 (hM m (fU fi 7 1) ar g, z) := by
  rw [b_X5_fails_0, if_neg (by decide), mpI7, Option.bind_some, mgI7, Option.bind_some, fU_s, if_pos (by decide)]
  rfl
theorem ef01 {c : Int} : t_Ev (t_pg G) t_hd Y_X5_fails 0 ([some (.ref m), some (.int (iI 0)), some (.int (iI 1)), some (.int (iI c))], [], (hM m fi ar g, z)) = rI 1 (hM m (fU fi 7 2) ar g, z) := by
  rw [b_X5_fails_0, if_pos rfl, if_neg (by decide), mpI7, Option.bind_some, mgI7, Option.bind_some, fU_s, if_pos (by decide)]
  rfl
theorem ef001 : t_Ev (t_pg G) t_hd Y_X5_fails 0 ([some (.ref m), some (.int (iI 0)), some (.int (iI 0)), some (.int (iI 1))], [], (hM m fi ar g, z)) = rI 1 (hM m (fU fi 7 3) ar g, z) := by
  rw [b_X5_fails_0, if_pos rfl, if_pos rfl, if_neg (by decide), mpI7, Option.bind_some, mgI7, Option.bind_some, fU_s, if_pos (by decide)]
  rfl
theorem ef0 : t_Ev (t_pg G) t_hd Y_X5_fails 0 ([some (.ref m), some (.int (iI 0)), some (.int (iI 0)), some (.int (iI 0))], [], (hM m fi ar g, z)) = rI 0 (hM m (fU fi 7 0) ar g, z) := by
  rw [b_X5_fails_0, if_pos rfl, if_pos rfl, if_pos rfl, mpI7, Option.bind_some, mgI7, Option.bind_some, fU_s, if_neg (by decide)]
  rfl
theorem e_told {v : Int} : t_Ev (t_pg G) t_hd Y_X5_told 0 ([some (.ref m), some (.int (iI v))], [], (hM m fi ar g, z)) = rI v (hM m (fU fi 7 0) ar g, z) := by
  rw [b_X5_told_0, mpI7, Option.bind_some]
  rfl
theorem e_thrown : t_Ev (t_pg G) t_hd Y_X5_thrown 0 ([some (.ref m)], [], (hM m fi ar g, z)) = rI (fi 7) (hM m fi ar g, z) := by
  rw [b_X5_thrown_0, mgI7, Option.bind_some]
  rfl
theorem e_noShape {hs : tHS} {v : Int} (h : InR v) : t_Ev (t_pg G) t_hd Y_X5_noShape 0 ([some (.int (iI v))], [], hs) = rB (!isB v 0 4) hs := by
  rw [b_X5_noShape_0, e_isIn h.1 h.2 (by decide) (by decide) (by decide) (by decide), bI_rB]
  simp only [bB_0]
  cases isB v 0 4 <;> rfl
theorem e_noTurn {hs : tHS} {v : Int} (h : InR v) : t_Ev (t_pg G) t_hd Y_X5_noTurn 0 ([some (.int (iI v))], [], hs) = rB (!isB v 0 3) hs := by
  rw [b_X5_noTurn_0, e_isIn h.1 h.2 (by decide) (by decide) (by decide) (by decide), bI_rB]
  simp only [bB_0]
  cases isB v 0 3 <;> rfl
theorem e_noSide {hs : tHS} {v : Int} (h : InR v) : t_Ev (t_pg G) t_hd Y_X5_noSide 0 ([some (.int (iI v))], [], hs) = rB (!isB v 0 1) hs := by
  rw [b_X5_noSide_0, e_isIn h.1 h.2 (by decide) (by decide) (by decide) (by decide), bI_rB]
  simp only [bB_0]
  cases isB v 0 1 <;> rfl
theorem e_noPlayer {hs : tHS} {v : Int} (h : InR v) : t_Ev (t_pg G) t_hd Y_X5_noPlayer 0 ([some (.int (iI v))], [], hs) = rB (!isB v 0 1) hs := by
  rw [b_X5_noPlayer_0, e_isIn h.1 h.2 (by decide) (by decide) (by decide) (by decide), bI_rB]
  simp only [bB_0]
  cases isB v 0 1 <;> rfl
theorem m_errorCode : MQr m g z fi ar kc (t_Ev (t_pg G) t_hd Y_X5_errorCode 0 ([some (.ref m)], [], (hM m fi ar g, z))) (.inr (fi 15)) := MQr.v7 (by
  rw [b_X5_errorCode_0, mgI15, Option.bind_some, mK, Option.bind_some, e_told, bI_rI]; rfl)
theorem m_errorOffset : MQr m g z fi ar kc (t_Ev (t_pg G) t_hd Y_X5_errorOffset 0 ([some (.ref m)], [], (hM m fi ar g, z))) (.inr (fi 16)) := MQr.v7 (by
  rw [b_X5_errorOffset_0, mgI16, Option.bind_some, mK, Option.bind_some, e_told, bI_rI]; rfl)
theorem m_columns : MQr m g z fi ar kc (t_Ev (t_pg G) t_hd Y_X5_columns 0 ([some (.ref m)], [], (hM m fi ar g, z))) (.inr (ar 0 0)) := MQr.v7 (by
  rw [b_X5_columns_0]; simp (disch := omega) only [mK, mgI6, mgI7, mgI13, mgI14, mgI15, mgI16, mgI17, mgI18, mgI19, mgI20, mgI21, mgI22, mgI23, mgI24, mgI25, mgI26, mgI27, mgR0, mgR1, mgR2, mgR3, mgR4, mgR5, mgR8, mgR9, mgR10, mgR11, mgR12, Option.bind_some, va_rf_some, va_rf_none, bI_rI, bI_rB, bV_rV, bB_0, bB_1, iI_add, iI_sub, iI_mul, iI_neg, rI_of, rV_of, Int.reduceToNat, Int.neg_neg, mld0, e_told])
theorem m_rows : MQr m g z fi ar kc (t_Ev (t_pg G) t_hd Y_X5_rows 0 ([some (.ref m)], [], (hM m fi ar g, z))) (.inr (ar 0 1)) := MQr.v7 (by
  rw [b_X5_rows_0]; simp (disch := omega) only [mK, mgI6, mgI7, mgI13, mgI14, mgI15, mgI16, mgI17, mgI18, mgI19, mgI20, mgI21, mgI22, mgI23, mgI24, mgI25, mgI26, mgI27, mgR0, mgR1, mgR2, mgR3, mgR4, mgR5, mgR8, mgR9, mgR10, mgR11, mgR12, Option.bind_some, va_rf_some, va_rf_none, bI_rI, bI_rB, bV_rV, bB_0, bB_1, iI_add, iI_sub, iI_mul, iI_neg, rI_of, rV_of, Int.reduceToNat, Int.neg_neg, mld0, e_told])
theorem m_emptyCells (md : Md fi ar) : MQr m g z fi ar kc (t_Ev (t_pg G) t_hd Y_X5_emptyCells 0 ([some (.ref m)], [], (hM m fi ar g, z))) (.inr (emA (ar 0))) := MQr.v7 (by
  rw [b_X5_emptyCells_0]; simp (disch := omega) only [mK, mgI6, mgI7, mgI13, mgI14, mgI15, mgI16, mgI17, mgI18, mgI19, mgI20, mgI21, mgI22, mgI23, mgI24, mgI25, mgI26, mgI27, mgR0, mgR1, mgR2, mgR3, mgR4, mgR5, mgR8, mgR9, mgR10, mgR11, mgR12, Option.bind_some, va_rf_some, va_rf_none, bI_rI, bI_rB, bV_rV, bB_0, bB_1, iI_add, iI_sub, iI_mul, iI_neg, rI_of, rV_of, Int.reduceToNat, Int.neg_neg, e_allEmpty md.w.bd.dm md.w.rb, e_told])
theorem m_pieceCount : MQr m g z fi ar kc (t_Ev (t_pg G) t_hd Y_X5_pieceCount 0 ([some (.ref m)], [], (hM m fi ar g, z))) (.inr (ar 0 4)) := MQr.v7 (by
  rw [b_X5_pieceCount_0]; simp (disch := omega) only [mK, mgI6, mgI7, mgI13, mgI14, mgI15, mgI16, mgI17, mgI18, mgI19, mgI20, mgI21, mgI22, mgI23, mgI24, mgI25, mgI26, mgI27, mgR0, mgR1, mgR2, mgR3, mgR4, mgR5, mgR8, mgR9, mgR10, mgR11, mgR12, Option.bind_some, va_rf_some, va_rf_none, bI_rI, bI_rB, bV_rV, bB_0, bB_1, iI_add, iI_sub, iI_mul, iI_neg, rI_of, rV_of, Int.reduceToNat, Int.neg_neg, mld0, e_told])
theorem m_undoableChanges : MQr m g z fi ar kc (t_Ev (t_pg G) t_hd Y_X5_undoableChanges 0 ([some (.ref m)], [], (hM m fi ar g, z))) (.inr (fi 6)) := MQr.v7 (by
  rw [b_X5_undoableChanges_0]; simp (disch := omega) only [mK, mgI6, mgI7, mgI13, mgI14, mgI15, mgI16, mgI17, mgI18, mgI19, mgI20, mgI21, mgI22, mgI23, mgI24, mgI25, mgI26, mgI27, mgR0, mgR1, mgR2, mgR3, mgR4, mgR5, mgR8, mgR9, mgR10, mgR11, mgR12, Option.bind_some, va_rf_some, va_rf_none, bI_rI, bI_rB, bV_rV, bB_0, bB_1, iI_add, iI_sub, iI_mul, iI_neg, rI_of, rV_of, Int.reduceToNat, Int.neg_neg, e_told])
theorem m_strapCount (md : Md fi ar) : MQr m g z fi ar kc (t_Ev (t_pg G) t_hd Y_X5_strapCount 0 ([some (.ref m), none, none], [], (hM m fi ar g, z))) (.inr (stC (ar 0))) := MQr.v7 (by
  rw [b_X5_strapCount_0, mpI7, Option.bind_some]
  have lo := lp_up (N := 128) (F := fun k => t_Ev (t_pg G) t_hd Y_X5_strapCount 9 ([some (.ref m), some (.int (iI (sm (fun k => bB (decide (ar 0 (97 + k) = 1))) k))), some (.int (iI (k : Int)))], [], (hM m (fU fi 7 0) ar g, z))) fun k hk => by
    have st := md.w.sp.st (97 + k) (by omega) (by omega)
    rw [b_X5_strapCount_9]
    simp (disch := omega) only [mK, mgI6, mgI7, mgI13, mgI14, mgI15, mgI16, mgI17, mgI18, mgI19, mgI20, mgI21, mgI22, mgI23, mgI24, mgI25, mgI26, mgI27, mgR0, mgR1, mgR2, mgR3, mgR4, mgR5, mgR8, mgR9, mgR10, mgR11, mgR12, Option.bind_some, va_rf_some, va_rf_none, bI_rI, bI_rB, bV_rV, bB_0, bB_1, iI_add, iI_sub, iI_mul, iI_neg, rI_of, rV_of, Int.reduceToNat, Int.neg_neg, iI_lt, mld0]
    rw [if_pos (by omega), show (97 + (k : Int)).toNat = 97 + k by omega]
    have e : ar 0 (97 + k) = bB (decide (ar 0 (97 + k) = 1)) := by
      by_cases c : ar 0 (97 + k) = 1
      · rw [decide_eq_true c, c]; rfl
      · rw [decide_eq_false c, bB_f]; omega
    simp only [sm]
    rw [← e]
    rfl
  refine Eq.trans lo ?_
  try dsimp only
  rw [b_X5_strapCount_9]
  rfl)
theorem m_completeRows (md : Md fi ar) : MQr m g z fi ar kc (t_Ev (t_pg G) t_hd Y_X5_completeRows 0 ([some (.ref m), none, none], [], (hM m fi ar g, z))) (.inr (crN (ar 0))) := MQr.v7 (by
  have hd := md.w.bd.dm.2
  have hn := tn_of hd.1
  rw [b_X5_completeRows_0, mpI7, Option.bind_some]
  have lo := lp_up (N := (ar 0 1).toNat) (F := fun k => t_Ev (t_pg G) t_hd Y_X5_completeRows 9 ([some (.ref m), some (.int (iI (sm (fun y => bB (decide (emi (ar 0) y = 0))) k))), some (.int (iI (k : Int)))], [], (hM m (fU fi 7 0) ar g, z))) fun k hk => by
    have hb := emi_b md.w.bd.dm (y := k)
    rw [b_X5_completeRows_9]
    simp (disch := omega) only [mK, mgI6, mgI7, mgI13, mgI14, mgI15, mgI16, mgI17, mgI18, mgI19, mgI20, mgI21, mgI22, mgI23, mgI24, mgI25, mgI26, mgI27, mgR0, mgR1, mgR2, mgR3, mgR4, mgR5, mgR8, mgR9, mgR10, mgR11, mgR12, Option.bind_some, va_rf_some, va_rf_none, bI_rI, bI_rB, bV_rV, bB_0, bB_1, iI_add, iI_sub, iI_mul, iI_neg, rI_of, rV_of, Int.reduceToNat, Int.neg_neg, iI_lt, mld0]
    rw [if_pos (by omega), e_emptyIn md.w.bd.dm md.w.rb (by omega) (by omega), bI_rI]
    simp (disch := omega) only [iI_inj, iI_add, sm]
    by_cases c : emi (ar 0) k = 0
    · rw [if_pos c, decide_eq_true c]; rfl
    · rw [if_neg c, decide_eq_false c, bB_f, Int.add_zero]; rfl
  refine Eq.trans lo ?_
  try dsimp only
  rw [b_X5_completeRows_9]
  simp (disch := omega) only [mK, mgI6, mgI7, mgI13, mgI14, mgI15, mgI16, mgI17, mgI18, mgI19, mgI20, mgI21, mgI22, mgI23, mgI24, mgI25, mgI26, mgI27, mgR0, mgR1, mgR2, mgR3, mgR4, mgR5, mgR8, mgR9, mgR10, mgR11, mgR12, Option.bind_some, va_rf_some, va_rf_none, bI_rI, bI_rB, bV_rV, bB_0, bB_1, iI_add, iI_sub, iI_mul, iI_neg, rI_of, rV_of, Int.reduceToNat, Int.neg_neg, iI_lt, mld0]
  rw [if_neg (by omega)]
  rfl)
theorem m_isBlocked (md : Md fi ar) {u w : Int} (h1 : InR u) (h2 : InR w) : MQr m g z fi ar kcB (t_Ev (t_pg G) t_hd Y_X5_isBlocked 0 ([some (.ref m), some (.int (iI u)), some (.int (iI w))], [], (hM m fi ar g, z))) (if inB (ar 0) u w = true then .inr (bB (decide (cI (ar 0) u w = 1))) else .inl 17) := by
  rw [b_X5_isBlocked_0, mK, Option.bind_some, e_isInside md.w.bd.dm h1.1 h1.2 h2.1 h2.2, bI_rB]
  simp only [bB_0]
  cases c : inB (ar 0) u w with
  | false =>
    refine MQr.t7 (w := 0) ?_ rfl
    rw [if_pos rfl, b_X5_isBlocked_15, mK, Option.bind_some, ef1, bI_rI, if_neg (by decide)]
    rfl
  | true =>
    have hi := inB_7 md.w.bd.dm c
    have hc := md.w.rb.c u w
    refine MQr.v7 ?_
    rw [if_neg (by decide), b_X5_isBlocked_15, mK, Option.bind_some, ef0, bI_rI, if_pos rfl, mK, Option.bind_some, e_cell (by omega) (by omega) (by omega) (by omega), bI_rI]
    simp (disch := omega) only [iI_inj]
    exact rB_dec
theorem m_pieceAt (md : Md fi ar) {u w : Int} (h1 : InR u) (h2 : InR w) : MQr m g z fi ar kcB (t_Ev (t_pg G) t_hd Y_X5_pieceAt 0 ([some (.ref m), some (.int (iI u)), some (.int (iI w))], [], (hM m fi ar g, z))) (if inB (ar 0) u w = true then .inr (pOf (ar 0) u w) else .inl 17) := by
  rw [b_X5_pieceAt_0, mK, Option.bind_some, e_isInside md.w.bd.dm h1.1 h1.2 h2.1 h2.2, bI_rB]
  simp only [bB_0]
  cases c : inB (ar 0) u w with
  | false =>
    refine MQr.t7 (w := 0) ?_ rfl
    rw [if_pos rfl, b_X5_pieceAt_15, mK, Option.bind_some, ef1, bI_rI, if_neg (by decide)]
    rfl
  | true =>
    have hi := inB_7 md.w.bd.dm c
    refine MQr.v7 ?_
    rw [if_neg (by decide), b_X5_pieceAt_15, mK, Option.bind_some, ef0, bI_rI, if_pos rfl, mK, Option.bind_some, e_pieceOf md.w.rb hi.1 hi.2, bI_rI]
    rfl
theorem m_hasStrap (md : Md fi ar) {u w d : Int} (h1 : InR u) (h2 : InR w) (h3 : InR d) : MQr m g z fi ar kcA (t_Ev (t_pg G) t_hd Y_X5_hasStrap 0 ([some (.ref m), some (.int (iI u)), some (.int (iI w)), some (.int (iI d))], [], (hM m fi ar g, z))) (if isB d 0 1 = true then (if isEd (ar 0) u w d = true then .inr (bB (stB (ar 0) u w d)) else .inl 17) else .inl 15) := by
  rw [b_X5_hasStrap_0, e_noSide h3, bI_rB, mK, Option.bind_some, e_isEdge md.w.bd.dm h1.1 h1.2 h2.1 h2.2 h3.1 h3.2, bI_rB]
  simp only [bB_0]
  cases c : isB d 0 1 with
  | false =>
    refine MQr.t7 (w := 0) (c := 1) ?_ rfl
    simp only [Bool.not_false, bB_t]
    cases isEd (ar 0) u w d with
    | false => rw [if_pos rfl, b_X5_hasStrap_20, mK, Option.bind_some, ef1, bI_rI, if_neg (by decide)]; rfl
    | true => rw [if_neg (by decide), b_X5_hasStrap_20, mK, Option.bind_some, ef1, bI_rI, if_neg (by decide)]; rfl
  | true =>
    have bd := isB_iff.mp c
    simp only [Bool.not_true, bB_f]
    cases c2 : isEd (ar 0) u w d with
    | false =>
      refine MQr.t7 (w := 0) (c := 2) ?_ rfl
      rw [if_pos rfl, b_X5_hasStrap_20, mK, Option.bind_some, ef01, bI_rI, if_neg (by decide)]
      rfl
    | true =>
      have hb := isEd_b md.w.bd.dm c2 (by omega)
      have he := md.w.rb (edI u w d).toNat
      refine MQr.v7 ?_
      rw [if_neg (by decide), b_X5_hasStrap_20, mK, Option.bind_some, ef0, bI_rI, if_pos rfl, mgR0, Option.bind_some, e_edge h3.1 h3.2, bI_rI, va_rf_some, mld0 hb.2.2.2.2.1 hb.2.2.2.2.2, Option.bind_some]
      simp (disch := omega) only [iI_inj]
      exact rB_dec
theorem m_emptyInRow (md : Md fi ar) {w : Int} (h2 : InR w) : MQr m g z fi ar kcB (t_Ev (t_pg G) t_hd Y_X5_emptyInRow 0 ([some (.ref m), some (.int (iI w))], [], (hM m fi ar g, z))) (if isB w 0 (ar 0 1 - 1) = true then .inr (emi (ar 0) w) else .inl 17) := by
  have d1 := md.w.bd.d1
  rw [b_X5_emptyInRow_0]
  simp (disch := omega) only [mK, mgI6, mgI7, mgI13, mgI14, mgI15, mgI16, mgI17, mgI18, mgI19, mgI20, mgI21, mgI22, mgI23, mgI24, mgI25, mgI26, mgI27, mgR0, mgR1, mgR2, mgR3, mgR4, mgR5, mgR8, mgR9, mgR10, mgR11, mgR12, Option.bind_some, va_rf_some, va_rf_none, bI_rI, bI_rB, bV_rV, bB_0, bB_1, iI_add, iI_sub, iI_mul, iI_neg, rI_of, rV_of, Int.reduceToNat, Int.neg_neg, mld0]
  rw [e_isIn h2.1 h2.2 (by decide) (by decide) (by omega) (by omega), bI_rB]
  simp only [bB_0]
  cases c : isB w 0 (ar 0 1 - 1) with
  | false =>
    refine MQr.t7 (w := 0) ?_ rfl
    rw [if_pos rfl, b_X5_emptyInRow_22, mK, Option.bind_some, ef1, bI_rI, if_neg (by decide)]
    rfl
  | true =>
    have hi := isB_iff.mp c
    refine MQr.v7 ?_
    rw [if_neg (by decide), b_X5_emptyInRow_22, mK, Option.bind_some, ef0, bI_rI, if_pos rfl, mK, Option.bind_some, e_emptyIn md.w.bd.dm md.w.rb (by omega) (by omega), bI_rI]
    rfl
theorem m_ofPiece (md : Md fi ar) {k : Int} {j : Nat} (hj : j ≤ 5) (h2 : InR k) : MQr m g z fi ar kcB (t_Ev (t_pg G) t_hd Y_X5_ofPiece 0 ([some (.ref m), some (.int (iI k)), some (.int (iI (j : Int)))], [], (hM m fi ar g, z))) (pcR (ar 0) k j) := by
  have np := md.w.bd.np
  rw [b_X5_ofPiece_0]
  simp (disch := omega) only [mK, mgI6, mgI7, mgI13, mgI14, mgI15, mgI16, mgI17, mgI18, mgI19, mgI20, mgI21, mgI22, mgI23, mgI24, mgI25, mgI26, mgI27, mgR0, mgR1, mgR2, mgR3, mgR4, mgR5, mgR8, mgR9, mgR10, mgR11, mgR12, Option.bind_some, va_rf_some, va_rf_none, bI_rI, bI_rB, bV_rV, bB_0, bB_1, iI_add, iI_sub, iI_mul, iI_neg, rI_of, rV_of, Int.reduceToNat, Int.neg_neg, mld0]
  rw [e_isIn h2.1 h2.2 (by decide) (by decide) (by omega) (by omega), bI_rB]
  simp only [bB_0]
  unfold pcR
  cases c : isB k 0 (ar 0 4 - 1) with
  | false =>
    refine MQr.t7 (w := 0) ?_ rfl
    rw [if_pos rfl, b_X5_ofPiece_22, mK, Option.bind_some, ef1, bI_rI, if_neg (by decide)]
    rfl
  | true =>
    have hi := isB_iff.mp c
    refine MQr.v7 ?_
    rw [if_neg (by decide), b_X5_ofPiece_22, mK, Option.bind_some, ef0, bI_rI, if_pos rfl]
    simp (disch := omega) only [mK, mgI6, mgI7, mgI13, mgI14, mgI15, mgI16, mgI17, mgI18, mgI19, mgI20, mgI21, mgI22, mgI23, mgI24, mgI25, mgI26, mgI27, mgR0, mgR1, mgR2, mgR3, mgR4, mgR5, mgR8, mgR9, mgR10, mgR11, mgR12, Option.bind_some, va_rf_some, va_rf_none, bI_rI, bI_rB, bV_rV, bB_0, bB_1, iI_add, iI_sub, iI_mul, iI_neg, rI_of, rV_of, Int.reduceToNat, Int.neg_neg, mld0]
    unfold pcI
    rw [show (225 + k * 6 + (j : Int)).toNat = 225 + k.toNat * 6 + j by omega]
end MQS
