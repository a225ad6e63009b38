/-! ===== the component's queries ===== -/
/-- a query's answer: a value, or an exception of a kind -/
def CQ (E : Option tRS) (hs : tHS) (r : Nat ⊕ Int) : Prop := ∃ hs', (match r with
  | .inl κ => ∃ e, E = some (.inr e, hs') ∧ t_kind hs'.1 e = κ
  | .inr v => E = rI v hs') ∧ Ex 1400 5400 hs hs'
theorem CQ.ret {E : Option tRS} {hs : tHS} {v : Int} (hF : Fi hs) (h : E = rI v hs) : CQ E hs (.inr v) := ⟨hs, h, Mx.refl hF⟩
theorem CQ.ex {E : Option tRS} {hs hs' : tHS} {v : Int} {c d : Nat} (h : E = rI v hs') (m : Ex c d hs hs') (hc : c ≤ 1400) (hd : d ≤ 5400) : CQ E hs (.inr v) := ⟨hs', h, m.le hc hd⟩
theorem CQ.thr {E : Option tRS} {hs : tHS} {κ : Nat} (hF : Fi hs) (h : E = tTh κ hs) : CQ E hs (.inl κ) := ⟨_, ⟨_, h, kd_at t_up_s⟩, (Ex.al hF).le (by decide) (by decide)⟩
theorem CQ.thr' {E : Option tRS} {hs hs' : tHS} {κ c d : Nat} (h : E = tTh κ hs') (m : Ex c d hs hs') (hc : c ≤ 1399) (hd : d ≤ 5394) : CQ E hs (.inl κ) := ⟨_, ⟨_, h, kd_at t_up_s⟩, (m.trans (Ex.al m.fi)).le (by omega) (by omega)⟩
/-- an int of 32 bits -/
abbrev InR (z : Int) : Prop := -2147483648 ≤ z ∧ z ≤ 2147483647
section QR
variable {G : tG} {D N : Nat → Prop} {hs : tHS} {x sv a ia ow dq sa ea hd : Nat} {gs : Nat → Nat} {fs : Nat → Option Nat} {fi : Nat → Int} {ar : Nat → Nat → Int}
theorem t_th {κ : Nat} {h : tHS} (hk : t_obj (t_al h (true, κ, .inl []) 6).1 (.ref h.2.1) = some h.2.1) : ((t_obj (t_al h (true, κ, .inl []) 6).1 (.ref h.2.1)).bind fun a_1 => (some (.inr a_1, t_al h (true, κ, .inl []) 6) : Option tRS)) = tTh κ h := by rw [hk]; rfl
theorem ob15 {h : tHS} : t_obj (t_al h (true, 15, .inl []) 6).1 (.ref h.2.1) = some h.2.1 := by simp only [t_obj, al_1, t_up_s]; exact if_pos (by decide)
theorem ob16 {h : tHS} : t_obj (t_al h (true, 16, .inl []) 6).1 (.ref h.2.1) = some h.2.1 := by simp only [t_obj, al_1, t_up_s]; exact if_pos (by decide)
theorem ob17 {h : tHS} : t_obj (t_al h (true, 17, .inl []) 6).1 (.ref h.2.1) = some h.2.1 := by simp only [t_obj, al_1, t_up_s]; exact if_pos (by decide)
theorem c_checkRange {w lo hi : Int} {v : Option Value} (h1 : InR w) (h2 : InR lo) (h3 : InR hi) : t_Ev (t_pg G) t_hd Y_X1_checkRange 0 ([v, some (.int (iI w)), some (.int (iI lo)), some (.int (iI hi))], [], hs) = if isB w lo hi = true then rV hs else tTh 15 hs := by
  rw [b_X1_checkRange_0, t_th ob15]
  simp (disch := omega) only [iI_lt]
  unfold isB
  by_cases c1 : w < lo
  · rw [if_pos c1, decide_eq_false (by omega)]; rfl
  · rw [if_neg c1, decide_eq_true (by omega)]
    by_cases c2 : hi < w
    · rw [if_pos c2, decide_eq_false (by omega)]; rfl
    · rw [if_neg c2, decide_eq_true (by omega)]; rfl
theorem c_checkIndex {b : Bool} {v : Option Value} : t_Ev (t_pg G) t_hd Y_X1_checkIndex 0 ([v, some (.int (iI (bB b)))], [], hs) = if b = true then rV hs else tTh 17 hs := by
  rw [b_X1_checkIndex_0, t_th ob17]
  simp only [bB_0]
  cases b <;> rfl
theorem XC.g1 (X : XC G D N hs.1 x sv a ia ow dq sa ea hd gs fs fi ar) : gfR hs.1 (.ref x) 0 1 = some (some a) := gfR_at X.ob rfl
theorem XC.kx (X : XC G D N hs.1 x sv a ia ow dq sa ea hd gs fs fi ar) : t_kN hs.1 (.ref x) 0 = some x := kN_at X.ob
theorem c_checkCell (X : XC G D N hs.1 x sv a ia ow dq sa ea hd gs fs fi ar) (md : Md fi ar) {u w : Int} (h1 : InR u) (h2 : InR w) : t_Ev (t_pg G) t_hd Y_X1_checkCell 0 ([some (.ref x), some (.int (iI u)), some (.int (iI w))], [], hs) = if inB (ar 0) u w = true then rV hs else tTh 17 hs := by
  rw [b_X1_checkCell_0]
  simp only [X.g1, X.kx, X.gm.k, va_rf_some, Option.bind_some]
  rw [c_isInside X.gm md.w.bd.dm h1.1 h1.2 h2.1 h2.2, bI_rB, X.kx, Option.bind_some, c_checkIndex]
  cases inB (ar 0) u w <;> rfl
theorem c_checkEdge (X : XC G D N hs.1 x sv a ia ow dq sa ea hd gs fs fi ar) (md : Md fi ar) {u w d : Int} (h1 : InR u) (h2 : InR w) (h3 : InR d) : t_Ev (t_pg G) t_hd Y_X1_checkEdge 0 ([some (.ref x), some (.int (iI u)), some (.int (iI w)), some (.int (iI d))], [], hs) = if isB d 0 1 = true then (if isEd (ar 0) u w d = true then rV hs else tTh 17 hs) else tTh 15 hs := by
  rw [b_X1_checkEdge_0, X.kx, Option.bind_some, c_checkRange h3 (by omega) (by omega)]
  cases c : isB d 0 1 with
  | false => rfl
  | true =>
    have hd := isB_iff.mp c
    rw [if_pos rfl, if_pos rfl, bV_rV]
    simp only [X.g1, X.kx, X.gm.k, va_rf_some, Option.bind_some]
    rw [c_isEdge X.gm md.w.bd.dm h1.1 h1.2 h2.1 h2.2 hd.1 hd.2, bI_rB, X.kx, Option.bind_some, c_checkIndex]
    cases isEd (ar 0) u w d <;> rfl
theorem q_errorCode (X : XC G D N hs.1 x sv a ia ow dq sa ea hd gs fs fi ar) (hF : Fi hs) : CQ (t_Ev (t_pg G) t_hd Y_X1_errorCode 0 ([some (.ref x)], [], hs)) hs (.inr (fi 15)) := CQ.ret hF (by rw [b_X1_errorCode_0, gfI_at (k := 4) (x := iI (fi 15)) X.ob rfl]; rfl)
theorem q_errorOffset (X : XC G D N hs.1 x sv a ia ow dq sa ea hd gs fs fi ar) (hF : Fi hs) : CQ (t_Ev (t_pg G) t_hd Y_X1_errorOffset 0 ([some (.ref x)], [], hs)) hs (.inr (fi 16)) := CQ.ret hF (by rw [b_X1_errorOffset_0, gfI_at (k := 5) (x := iI (fi 16)) X.ob rfl]; rfl)
theorem q_columns (X : XC G D N hs.1 x sv a ia ow dq sa ea hd gs fs fi ar) (hF : Fi hs) : CQ (t_Ev (t_pg G) t_hd Y_X1_columns 0 ([some (.ref x)], [], hs)) hs (.inr (ar 0 0)) := CQ.ret hF (by rw [b_X1_columns_0, X.g1, Option.bind_some, va_rf_some, X.gm.i1]; rfl)
theorem q_rows (X : XC G D N hs.1 x sv a ia ow dq sa ea hd gs fs fi ar) (hF : Fi hs) : CQ (t_Ev (t_pg G) t_hd Y_X1_rows 0 ([some (.ref x)], [], hs)) hs (.inr (ar 0 1)) := CQ.ret hF (by rw [b_X1_rows_0, X.g1, Option.bind_some, va_rf_some, X.gm.i2]; rfl)
theorem q_emptyCells (X : XC G D N hs.1 x sv a ia ow dq sa ea hd gs fs fi ar) (hF : Fi hs) (md : Md fi ar) : CQ (t_Ev (t_pg G) t_hd Y_X1_emptyCells 0 ([some (.ref x)], [], hs)) hs (.inr (emA (ar 0))) := CQ.ret hF (c_emptyCells X md.w.bd.dm md.w.rb)
theorem q_pieceCount (X : XC G D N hs.1 x sv a ia ow dq sa ea hd gs fs fi ar) (hF : Fi hs) : CQ (t_Ev (t_pg G) t_hd Y_X1_pieceCount 0 ([some (.ref x)], [], hs)) hs (.inr (ar 0 4)) := CQ.ret hF (by rw [b_X1_pieceCount_0, X.g1, Option.bind_some, va_rf_some, X.gm.i8]; rfl)
theorem q_strapCount (X : XC G D N hs.1 x sv a ia ow dq sa ea hd gs fs fi ar) (hF : Fi hs) : CQ (t_Ev (t_pg G) t_hd Y_X1_strapCount 0 ([some (.ref x)], [], hs)) hs (.inr (stC (ar 0))) := CQ.ret hF (by rw [b_X1_strapCount_0, X.g1, Option.bind_some, va_rf_some, X.gm.k, Option.bind_some, c_straps X.gm]; rfl)
theorem q_completeRows (X : XC G D N hs.1 x sv a ia ow dq sa ea hd gs fs fi ar) (hF : Fi hs) (md : Md fi ar) : CQ (t_Ev (t_pg G) t_hd Y_X1_completeRows 0 ([some (.ref x)], [], hs)) hs (.inr (crN (ar 0))) := CQ.ret hF (by rw [b_X1_completeRows_0, X.g1, Option.bind_some, va_rf_some, X.gm.k, Option.bind_some, c_completedRows X.gm md.w.bd.dm md.w.rb]; rfl)
theorem q_undoableChanges (X : XC G D N hs.1 x sv a ia ow dq sa ea hd gs fs fi ar) (hF : Fi hs) (md : Md fi ar) : CQ (t_Ev (t_pg G) t_hd Y_X1_undoableChanges 0 ([some (.ref x)], [], hs)) hs (.inr (fi 6)) := CQ.ret hF (by
  have := md.c6
  rw [b_X1_undoableChanges_0, gfR_at (k := 7) (q := dq) X.ob rfl, Option.bind_some, va_rf_some, kN_at X.dk.e1, Option.bind_some, c_dqSize X.dk]
  exact rI_cg (by omega))
theorem q_isBlocked (X : XC G D N hs.1 x sv a ia ow dq sa ea hd gs fs fi ar) (hF : Fi hs) (md : Md fi ar) {u w : Int} (h1 : InR u) (h2 : InR w) : CQ (t_Ev (t_pg G) t_hd Y_X1_isBlocked 0 ([some (.ref x), some (.int (iI u)), some (.int (iI w))], [], hs)) hs (if inB (ar 0) u w = true then .inr (bB (decide (cI (ar 0) u w = 1))) else .inl 17) := by
  rw [b_X1_isBlocked_0, X.kx, Option.bind_some, c_checkCell X md h1 h2]
  cases c : inB (ar 0) u w with
  | false => exact CQ.thr hF rfl
  | true =>
    have hi := inB_7 md.w.bd.dm c
    refine CQ.ret hF ?_
    rw [if_pos rfl, bV_rV, X.g1, Option.bind_some, va_rf_some, X.gm.k, Option.bind_some, c_cell X.gm (by omega) (by omega) (by omega) (by omega), bI_rI]
    simp only [enc_m2 (md.w.rb.c u w)]
    exact rB_dec
theorem q_pieceAt (X : XC G D N hs.1 x sv a ia ow dq sa ea hd gs fs fi ar) (hF : Fi hs) (md : Md fi ar) {u w : Int} (h1 : InR u) (h2 : InR w) : CQ (t_Ev (t_pg G) t_hd Y_X1_pieceAt 0 ([some (.ref x), some (.int (iI u)), some (.int (iI w))], [], hs)) hs (if inB (ar 0) u w = true then .inr (pOf (ar 0) u w) else .inl 17) := by
  rw [b_X1_pieceAt_0, X.kx, Option.bind_some, c_checkCell X md h1 h2]
  cases c : inB (ar 0) u w with
  | false => exact CQ.thr hF rfl
  | true =>
    have hi := inB_7 md.w.bd.dm c
    have hc := md.w.rb.c u w
    have he := enc_b hc.1 hc.2
    refine CQ.ret hF ?_
    rw [if_pos rfl, bV_rV, X.g1, Option.bind_some, va_rf_some, X.gm.k, Option.bind_some, c_cell X.gm (by omega) (by omega) (by omega) (by omega), bI_rI, e_max (by omega) (by omega) (by omega) (by omega), bI_rI]
    refine rI_cg ?_
    unfold pOf enc
    split <;> (try split) <;> (try split) <;> omega
theorem q_hasStrap (X : XC G D N hs.1 x sv a ia ow dq sa ea hd gs fs fi ar) (hF : Fi hs) (md : Md fi ar) {u w d : Int} (h1 : InR u) (h2 : InR w) (h3 : InR d) : CQ (t_Ev (t_pg G) t_hd Y_X1_hasStrap 0 ([some (.ref x), some (.int (iI u)), some (.int (iI w)), some (.int (iI d))], [], hs)) hs (if isB d 0 1 = true then (if isEd (ar 0) u w d = true then .inr (bB (stB (ar 0) u w d)) else .inl 17) else .inl 15) := by
  rw [b_X1_hasStrap_0, X.kx, Option.bind_some, c_checkEdge X md h1 h2 h3]
  cases c : isB d 0 1 with
  | false => exact CQ.thr hF rfl
  | true =>
    have hd := isB_iff.mp c
    rw [if_pos rfl, if_pos rfl]
    cases c2 : isEd (ar 0) u w d with
    | false => exact CQ.thr hF rfl
    | true =>
      have hb := isEd_b md.w.bd.dm c2 (by omega)
      refine CQ.ret hF ?_
      rw [if_pos rfl, bV_rV, X.g1, Option.bind_some, va_rf_some, X.gm.k, Option.bind_some, c_isStrapped X.gm hb.1 hb.2.1 hd.1 hd.2, bI_rB, if_pos bB_ok]
      rfl
theorem q_emptyInRow (X : XC G D N hs.1 x sv a ia ow dq sa ea hd gs fs fi ar) (hF : Fi hs) (md : Md fi ar) {w : Int} (h2 : InR w) : CQ (t_Ev (t_pg G) t_hd Y_X1_emptyInRow 0 ([some (.ref x), some (.int (iI w))], [], hs)) hs (if isB w 0 (ar 0 1 - 1) = true then .inr (emi (ar 0) w) else .inl 17) := by
  have d0 := md.w.bd.d0
  have d1 := md.w.bd.d1
  have e : inB (ar 0) 0 w = isB w 0 (ar 0 1 - 1) := by unfold inB; rw [show isB 0 0 (ar 0 0 - 1) = true from isB_iff.mpr (by omega), Bool.true_and]
  rw [b_X1_emptyInRow_0, X.kx, Option.bind_some, c_checkCell X md (by omega) h2, e]
  cases c : isB w 0 (ar 0 1 - 1) with
  | false => exact CQ.thr hF rfl
  | true =>
    have hi := isB_iff.mp c
    refine CQ.ret hF ?_
    rw [if_pos rfl, bV_rV, X.g1, Option.bind_some, va_rf_some, X.gm.k, Option.bind_some, c_emptyCellsOf X.gm md.w.bd.dm md.w.rb (by omega) (by omega)]
    rfl
end QR
