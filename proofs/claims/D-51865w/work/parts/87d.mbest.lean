/-! ===== the model finds the best ===== -/
section MBS
variable {G : tG} {m : Nat} {fi : Nat → Int} {ar : Nat → Nat → Int} {g : tAH} {z : Nat × Nat}
theorem m_bestOf (md : Md fi ar) {sh r : Int} (h1 : 0 ≤ sh) (h2 : sh ≤ 4) (h3 : 0 ≤ r) (h4 : r ≤ 3) {b : Int × Option (Int × Int × Int × Int)} {f0 : Nat → Int} {a0 : Nat → Nat → Int} (hb : BR b f0) (hs : Sc QI QA fi ar f0 a0) :
    ∃ f1 a1, t_Ev (t_pg G) t_hd Y_X5_bestOf 0 ([some (.ref m), some (.int (iI sh)), some (.int (iI r)), some (.int (iI b.1)), none, none, none, none], [], (hM m f0 a0 g, z)) = rI (vY (ar 0) (bsf (ar 0)) sh r b).1 (hM m f1 a1 g, z) ∧ BR (vY (ar 0) (bsf (ar 0)) sh r b) f1 ∧ Sc QI QA fi ar f1 a1 ∧ f1 7 = f0 7 := by
  have hd := md.w.bd.dm.2
  have hn := tn_of hd.1
  obtain ⟨⟨f1, a1, u, u2⟩, ⟨i1, i2, i3⟩, lo⟩ := lp_ik (N := (ar 0 1).toNat) (σ := (Nat → Int) × (Nat → Nat → Int) × Option Value × Option Value) (I := fun k c => BR (fd (fun y st => vX (ar 0) (bsf (ar 0)) sh r y st) k b) c.1 ∧ Sc QI QA fi ar c.1 c.2.1 ∧ c.1 7 = f0 7) (F := fun k c => t_Ev (t_pg G) t_hd Y_X5_bestOf 6 ([some (.ref m), some (.int (iI sh)), some (.int (iI r)), some (.int (iI b.1)), some (.int (iI ((fd (fun y st => vX (ar 0) (bsf (ar 0)) sh r y st) k b).1))), some (.int (iI (k : Int))), c.2.2.1, c.2.2.2], [], (hM m c.1 c.2.1 g, z))) (fun k hk c hc => by
    obtain ⟨hB, hS, h7⟩ := hc
    have c0 : c.2.1 0 = ar 0 := hS.2 0 (by decide)
    rw [fd]
    try dsimp only
    generalize fd (fun y st => vX (ar 0) (bsf (ar 0)) sh r y st) k b = B at hB ⊢
    obtain ⟨f2, a2, u, e2, B2, s2, t2⟩ := m_bestOf20 (G := G) (m := m) (g := g) (z := z) md h1 h2 h3 h4 (y := k) (by omega) hB hS (v3 := some (.int (iI b.1))) (u7 := c.2.2.2)
    refine ⟨(f2, a2, some (.int (iI (ar 0 0))), u), ⟨B2, s2, t2.trans h7⟩, ?_⟩
    rw [b_X5_bestOf_6]
    simp (disch := omega) only [mK, mgI6, mgI7, mgI13, mgI14, mgI15, mgI16, mgI17, mgI18, mgI19, mgI20, mgI21, mgI22, mgI23, mgI24, mgI25, mgI26, mgI27, mgR0, mgR1, mgR2, mgR3, mgR4, mgR5, mgR8, mgR9, mgR10, mgR11, mgR12, Option.bind_some, va_rf_some, va_rf_none, bI_rI, bI_rB, bV_rV, bB_0, bB_1, iI_add, iI_sub, iI_mul, iI_neg, rI_of, rV_of, Int.reduceToNat, Int.neg_neg, mld0, c0, iI_lt]
    rw [if_pos (show (k : Int) < ar 0 1 by omega)]
    exact e2) (f0, a0, none, none) ⟨hb, hs, rfl⟩
  refine ⟨f1, a1, ?_, i1, i2, i3⟩
  have c0 : a1 0 = ar 0 := i2.2 0 (by decide)
  rw [b_X5_bestOf_0]
  refine Eq.trans lo ?_
  try dsimp only
  rw [b_X5_bestOf_6]
  simp (disch := omega) only [mK, mgI6, mgI7, mgI13, mgI14, mgI15, mgI16, mgI17, mgI18, mgI19, mgI20, mgI21, mgI22, mgI23, mgI24, mgI25, mgI26, mgI27, mgR0, mgR1, mgR2, mgR3, mgR4, mgR5, mgR8, mgR9, mgR10, mgR11, mgR12, Option.bind_some, va_rf_some, va_rf_none, bI_rI, bI_rB, bV_rV, bB_0, bB_1, iI_add, iI_sub, iI_mul, iI_neg, rI_of, rV_of, Int.reduceToNat, Int.neg_neg, mld0, c0, iI_lt]
  rw [if_neg (by omega)]
  rfl
theorem m_findB62 (md : Md fi ar) {sh : Int} (h1 : 0 ≤ sh) (h2 : sh ≤ 4) {b : Int × Option (Int × Int × Int × Int)} {f0 : Nat → Int} {a0 : Nat → Nat → Int} (hb : BR b f0) (hs : Sc QI QA fi ar f0 a0) :
    ∃ f1 a1 u, t_Ev (t_pg G) t_hd Y_X5_findBest 62 ([some (.ref m), some (.int (iI b.1)), some (.int (iI sh)), some (.int (iI 0))], [], (hM m f0 a0 g, z)) = t_Ev (t_pg G) t_hd Y_X5_findBest 29 ([some (.ref m), some (.int (iI ((vR (ar 0) (bsf (ar 0)) sh b).1))), some (.int (iI (sh + 1))), u], [], (hM m f1 a1 g, z)) ∧ BR (vR (ar 0) (bsf (ar 0)) sh b) f1 ∧ Sc QI QA fi ar f1 a1 ∧ f1 7 = f0 7 := by
  obtain ⟨⟨f1, a1⟩, ⟨i1, i2, i3⟩, lo⟩ := lp_ik (N := 4) (σ := (Nat → Int) × (Nat → Nat → Int)) (I := fun k c => BR (fd (fun r st => vY (ar 0) (bsf (ar 0)) sh r st) k b) c.1 ∧ Sc QI QA fi ar c.1 c.2 ∧ c.1 7 = f0 7) (F := fun k c => t_Ev (t_pg G) t_hd Y_X5_findBest 62 ([some (.ref m), some (.int (iI ((fd (fun r st => vY (ar 0) (bsf (ar 0)) sh r st) k b).1))), some (.int (iI sh)), some (.int (iI (k : Int)))], [], (hM m c.1 c.2 g, z))) (fun k hk c hc => by
    obtain ⟨hB, hS, h7⟩ := hc
    rw [fd]
    try dsimp only
    generalize fd (fun r st => vY (ar 0) (bsf (ar 0)) sh r st) k b = B at hB ⊢
    obtain ⟨f2, a2, e2, B2, s2, t2⟩ := m_bestOf (G := G) (m := m) (g := g) (z := z) md h1 h2 (r := k) (by omega) (by omega) hB hS
    refine ⟨(f2, a2), ⟨B2, s2, t2.trans h7⟩, ?_⟩
    rw [b_X5_findBest_62]
    simp (disch := omega) only [iI_lt]
    rw [if_pos (by omega), mK, Option.bind_some, e2, bI_rI, iI_add]
    rfl) (f0, a0) ⟨hb, hs, rfl⟩
  refine ⟨f1, a1, some (.int (iI ((4 : Nat) : Int))), Eq.trans lo ?_, i1, i2, i3⟩
  try dsimp only
  rw [b_X5_findBest_62, if_neg (by decide), iI_add]
  rfl
theorem m_findBest (md : Md fi ar) : ∃ f1 a1, t_Ev (t_pg G) t_hd Y_X5_findBest 0 ([some (.ref m), none, none, none], [], (hM m fi ar g, z)) = rV (hM m f1 a1 g, z) ∧ (∃ b1, BR (b1, bst (ar 0)) f1) ∧ Sc QI QA fi ar f1 a1 ∧ f1 7 = 0 := by
  obtain ⟨f0, hf0⟩ : ∃ f0, f0 = fU (fU (fU (fU (fU fi 7 0) 24 (-1)) 25 (-1)) 26 (-1)) 27 (-1) := ⟨_, rfl⟩
  have s0 : Sc QI QA fi ar f0 ar := by rw [hf0]; exact (((q7_Sc.fU (by decide)).fU (by decide)).fU (by decide)).fU (by decide)
  have z7 : f0 7 = 0 := by rw [hf0]; exact (fU_n (by decide)).trans ((fU_n (by decide)).trans ((fU_n (by decide)).trans ((fU_n (by decide)).trans fU_s)))
  have g24 : f0 24 = -1 := by rw [hf0]; exact (fU_n (by decide)).trans ((fU_n (by decide)).trans ((fU_n (by decide)).trans fU_s))
  have g25 : f0 25 = -1 := by rw [hf0]; exact (fU_n (by decide)).trans ((fU_n (by decide)).trans fU_s)
  have g26 : f0 26 = -1 := by rw [hf0]; exact (fU_n (by decide)).trans fU_s
  have g27 : f0 27 = -1 := by rw [hf0]; exact fU_s
  have B0 : BR (0, none) f0 := ⟨by decide, g24, g25, g26, g27⟩
  have e0 : t_Ev (t_pg G) t_hd Y_X5_findBest 0 ([some (.ref m), none, none, none], [], (hM m fi ar g, z)) = t_Ev (t_pg G) t_hd Y_X5_findBest 29 ([some (.ref m), some (.int (iI 0)), some (.int (iI 0)), none], [], (hM m f0 ar g, z)) := by
    rw [b_X5_findBest_0]
    simp only [mpI6, mpI7, mpI13, mpI14, mpI15, mpI16, mpI17, mpI18, mpI19, mpI20, mpI21, mpI22, mpI23, mpI24, mpI25, mpI26, mpI27, Option.bind_some]
    rw [hf0]
  rw [e0]
  unfold bst
  cases ho : ovr (ar 0) with
  | true =>
    refine ⟨f0, ar, ?_, ⟨0, by rw [if_pos rfl]; exact B0⟩, s0, z7⟩
    rw [b_X5_findBest_29, if_pos (by decide), mK, Option.bind_some, e_over md.w.rb, bI_rB, ho, if_neg (by decide)]
    rfl
  | false =>
    obtain ⟨⟨f1, a1, u⟩, ⟨i1, i2, i3⟩, lo⟩ := lp_ik (N := 5) (σ := (Nat → Int) × (Nat → Nat → Int) × Option Value) (I := fun k c => BR (fd (fun sh st => if decide (0 < ofS (ar 0) (ar 0 2) (2 + (sh : Int))) = true then vR (ar 0) (bsf (ar 0)) sh st else st) k (0, none)) c.1 ∧ Sc QI QA fi ar c.1 c.2.1 ∧ c.1 7 = 0) (F := fun k c => t_Ev (t_pg G) t_hd Y_X5_findBest 29 ([some (.ref m), some (.int (iI ((fd (fun sh st => if decide (0 < ofS (ar 0) (ar 0 2) (2 + (sh : Int))) = true then vR (ar 0) (bsf (ar 0)) sh st else st) k (0, none)).1))), some (.int (iI (k : Int))), c.2.2], [], (hM m c.1 c.2.1 g, z))) (fun k hk c hc => by
      obtain ⟨hB, hS, h7⟩ := hc
      have c0 : c.2.1 0 = ar 0 := hS.2 0 (by decide)
      have mv := md.w.py.mv
      have rb : 0 ≤ ofS (ar 0) (ar 0 2) (2 + (k : Int)) ∧ ofS (ar 0) (ar 0 2) (2 + (k : Int)) ≤ 1000000 := md.w.rb _
      have eo := e_over (G := G) (m := m) (fi := c.1) (ar := c.2.1) (g := g) (z := z) (by rw [c0]; exact md.w.rb)
      rw [c0, ho] at eo
      have ef := e_of (G := G) (m := m) (fi := c.1) (ar := c.2.1) (g := g) (z := z) (p := ar 0 2) (w := 2 + (k : Int)) (by unfold plI; omega) (by unfold plI; omega)
      rw [c0] at ef
      rw [fd]
      try dsimp only
      generalize fd (fun sh st => if decide (0 < ofS (ar 0) (ar 0 2) (2 + (sh : Int))) = true then vR (ar 0) (bsf (ar 0)) sh st else st) k (0, none) = B at hB ⊢
      have st : t_Ev (t_pg G) t_hd Y_X5_findBest 29 ([some (.ref m), some (.int (iI B.1)), some (.int (iI (k : Int))), c.2.2], [], (hM m c.1 c.2.1 g, z)) = if ofS (ar 0) (ar 0 2) (2 + (k : Int)) = 0 then t_Ev (t_pg G) t_hd Y_X5_findBest 29 ([some (.ref m), some (.int (iI B.1)), some (.int (iI ((k + 1 : Nat) : Int))), c.2.2], [], (hM m c.1 c.2.1 g, z)) else t_Ev (t_pg G) t_hd Y_X5_findBest 62 ([some (.ref m), some (.int (iI B.1)), some (.int (iI (k : Int))), some (.int (iI 0))], [], (hM m c.1 c.2.1 g, z)) := by
        rw [b_X5_findBest_29]
        simp (disch := omega) only [iI_lt]
        rw [if_pos (by omega), mK, Option.bind_some, eo, bI_rB, if_pos (by decide)]
        simp (disch := omega) only [mK, mgI6, mgI7, mgI13, mgI14, mgI15, mgI16, mgI17, mgI18, mgI19, mgI20, mgI21, mgI22, mgI23, mgI24, mgI25, mgI26, mgI27, mgR0, mgR1, mgR2, mgR3, mgR4, mgR5, mgR8, mgR9, mgR10, mgR11, mgR12, Option.bind_some, va_rf_some, va_rf_none, bI_rI, bI_rB, bV_rV, bB_0, bB_1, iI_add, iI_sub, iI_mul, iI_neg, rI_of, rV_of, Int.reduceToNat, Int.neg_neg, mld0, c0]
        rw [ef, bI_rI]
        simp (disch := omega) only [iI_inj]
        (try rfl)
      by_cases q : ofS (ar 0) (ar 0 2) (2 + (k : Int)) = 0
      · rw [if_pos q] at st
        refine ⟨c, ⟨?_, hS, h7⟩, ?_⟩
        · rw [if_neg (by rw [decide_eq_false (by omega)]; decide)]; exact hB
        · rw [if_neg (by rw [decide_eq_false (by omega)]; decide)]; exact st
      · rw [if_neg q] at st
        obtain ⟨f2, a2, u, e2, B2, s2, t2⟩ := m_findB62 (G := G) (m := m) (g := g) (z := z) md (sh := k) (by omega) (by omega) hB hS
        refine ⟨(f2, a2, u), ⟨?_, s2, t2.trans h7⟩, ?_⟩
        · rw [if_pos (decide_eq_true (by omega))]; exact B2
        · rw [if_pos (decide_eq_true (by omega))]; exact st.trans e2) (f0, ar, none) ⟨B0, s0, z7⟩
    refine ⟨f1, a1, Eq.trans lo ?_, ⟨_, by rw [if_neg (by decide)]; exact i1⟩, i2, i3⟩
    try dsimp only
    rw [b_X5_findBest_29, if_neg (by decide)]
    rfl
theorem m_bsR {b1 : Int} {s : tRow} {f : Nat → Int} {h : Int × Int × Int × Int → Int} {j : Nat} (B : BR (b1, bst s) f) (hn : bst s = none → f j = -1) (hs : ∀ t, bst s = some t → f j = h t) : f j = bsR s h := by
  unfold bsR
  cases c : bst s with
  | none => exact hn c
  | some t => exact hs t c
theorem m_bestShape (md : Md fi ar) {kc : Nat → Int} : MQr m g z fi ar kc (t_Ev (t_pg G) t_hd Y_X5_bestShape 0 ([some (.ref m)], [], (hM m fi ar g, z))) (.inr (bsR (ar 0) fun t => t.1)) := by
  obtain ⟨f1, a1, e, ⟨b1, B⟩, s, t7⟩ := m_findBest (G := G) (m := m) (g := g) (z := z) md
  have v := B.2
  refine MQr.v (fi' := f1) (ar' := a1) ?_ s t7
  rw [b_X5_bestShape_0, mK, Option.bind_some, e, bV_rV, mgI24, Option.bind_some]
  refine congrArg (fun x => rI x (hM m f1 a1 g, z)) (m_bsR B (fun c => ?_) (fun t c => ?_))
  · dsimp only at v; rw [c] at v; exact v.1
  · dsimp only at v; rw [c] at v; exact v.1
theorem m_bestRotation (md : Md fi ar) {kc : Nat → Int} : MQr m g z fi ar kc (t_Ev (t_pg G) t_hd Y_X5_bestRotation 0 ([some (.ref m)], [], (hM m fi ar g, z))) (.inr (bsR (ar 0) fun t => t.2.1)) := by
  obtain ⟨f1, a1, e, ⟨b1, B⟩, s, t7⟩ := m_findBest (G := G) (m := m) (g := g) (z := z) md
  have v := B.2
  refine MQr.v (fi' := f1) (ar' := a1) ?_ s t7
  rw [b_X5_bestRotation_0, mK, Option.bind_some, e, bV_rV, mgI25, Option.bind_some]
  refine congrArg (fun x => rI x (hM m f1 a1 g, z)) (m_bsR B (fun c => ?_) (fun t c => ?_))
  · dsimp only at v; rw [c] at v; exact v.2.1
  · dsimp only at v; rw [c] at v; exact v.2.1
theorem m_bestColumn (md : Md fi ar) {kc : Nat → Int} : MQr m g z fi ar kc (t_Ev (t_pg G) t_hd Y_X5_bestColumn 0 ([some (.ref m)], [], (hM m fi ar g, z))) (.inr (bsR (ar 0) fun t => t.2.2.1)) := by
  obtain ⟨f1, a1, e, ⟨b1, B⟩, s, t7⟩ := m_findBest (G := G) (m := m) (g := g) (z := z) md
  have v := B.2
  refine MQr.v (fi' := f1) (ar' := a1) ?_ s t7
  rw [b_X5_bestColumn_0, mK, Option.bind_some, e, bV_rV, mgI26, Option.bind_some]
  refine congrArg (fun x => rI x (hM m f1 a1 g, z)) (m_bsR B (fun c => ?_) (fun t c => ?_))
  · dsimp only at v; rw [c] at v; exact v.2.2.1
  · dsimp only at v; rw [c] at v; exact v.2.2.1
theorem m_bestRow (md : Md fi ar) {kc : Nat → Int} : MQr m g z fi ar kc (t_Ev (t_pg G) t_hd Y_X5_bestRow 0 ([some (.ref m)], [], (hM m fi ar g, z))) (.inr (bsR (ar 0) fun t => t.2.2.2)) := by
  obtain ⟨f1, a1, e, ⟨b1, B⟩, s, t7⟩ := m_findBest (G := G) (m := m) (g := g) (z := z) md
  have v := B.2
  refine MQr.v (fi' := f1) (ar' := a1) ?_ s t7
  rw [b_X5_bestRow_0, mK, Option.bind_some, e, bV_rV, mgI27, Option.bind_some]
  refine congrArg (fun x => rI x (hM m f1 a1 g, z)) (m_bsR B (fun c => ?_) (fun t c => ?_))
  · dsimp only at v; rw [c] at v; exact v.2.2.2
  · dsimp only at v; rw [c] at v; exact v.2.2.2
theorem m_outputByte (md : Md fi ar) {k : Int} (h : InR k) {kc : Nat → Int} : MQr m g z fi ar kc (t_Ev (t_pg G) t_hd Y_X5_outputByte 0 ([some (.ref m), some (.int (iI k))], [], (hM m fi ar g, z))) (.inr (if isB k 0 (fi 14 - 1) = true then ar 9 k.toNat else -1)) := MQr.v7 (by
  have o := md.o14
  rw [b_X5_outputByte_0, mpI7, Option.bind_some, mgI14, Option.bind_some, fU_n (by decide), iI_sub, e_isIn h.1 h.2 (by decide) (by decide) (by omega) (by omega), bI_rB]
  simp only [bB_0]
  cases c : isB k 0 (fi 14 - 1) with
  | false => rfl
  | true =>
    have b := isB_iff.mp c
    rw [if_neg (by decide), mgR9, Option.bind_some, va_rf_some, mld9 b.1 (by omega), if_pos rfl]
    rfl)
end MBS
