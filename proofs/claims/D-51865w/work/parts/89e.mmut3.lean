/-! ===== the model's input, output, plays ===== -/
theorem aU_aS {ar : Nat → Nat → Int} {k j : Nat} {F : Nat → Int} {v : Int} : aU (aS ar k F) k j v = aS ar k (fU F j v) := by
  funext q
  unfold aU aS
  by_cases h : q = k
  · rw [if_pos h, if_pos h, if_pos h]
  · rw [if_neg h, if_neg h, if_neg h]
section MMX
variable {G : tG} {m : Nat} {fi : Nat → Int} {ar : Nat → Nat → Int} {g : tAH} {z : Nat × Nat} {kc : Nat → Int}
theorem e_four {w : Nat → Int32} {q : Nat} {N : Int} (hq : q < 5) (hN : 0 ≤ N ∧ N ≤ 580) {f0 : Nat → Int} : t_Ev (t_pg G) t_hd Y_X5_four 0 ([some (.ref m), (some (.int (w q))), none], [], (hM m (fU f0 13 (N + ((4 * q : Nat) : Int))) (aS ar 8 (apJ (ar 8) N.toNat w (4 * q))) g, z)) = rV (hM m (fU f0 13 (N + ((4 * (q + 1) : Nat) : Int))) (aS ar 8 (apJ (ar 8) N.toNat w (4 * (q + 1)))) g, z) := by
  have lo := lp_up (N := 4) (F := fun k => t_Ev (t_pg G) t_hd Y_X5_four 3 ([some (.ref m), (some (.int (w q))), some (.int (iI (24 - 8 * (k : Int))))], [], (hM m (fU f0 13 (N + ((4 * q + k : Nat) : Int))) (aS ar 8 (apJ (ar 8) N.toNat w (4 * q + k))) g, z))) fun k hk => by
    have hb : ((w q >>> (iI (24 - 8 * (k : Int)) &&& 31)) &&& iI 255) = iI (bt (w q) k) := by
      obtain ⟨b, -, b1, b2, -⟩ := and_b (w q >>> (iI (24 - 8 * (k : Int)) &&& 31))
      unfold bt
      rw [b1] at b2 ⊢
      rw [b2]
    have hj := apJ_s (inp := ar 8) (n := N.toNat) (k := 4 * q + k) (w := w)
    rw [show (4 * q + k) / 4 = q by omega, show (4 * q + k) % 4 = k by omega] at hj
    rw [b_X5_four_3]
    simp (disch := omega) only [iI_lt]
    rw [if_neg (by omega), mgR8, Option.bind_some, mgI13, Option.bind_some, va_rf_some, fU_s, hb, mst8 (by omega) (by omega), Option.bind_some, mgI13, Option.bind_some, fU_s, iI_add, mpI13, Option.bind_some, iI_add, fU_fU, aU_aS, show (N + ((4 * q + k : Nat) : Int)).toNat = N.toNat + (4 * q + k) by omega, hj, show 24 - 8 * (k : Int) + -8 = 24 - 8 * ((k + 1 : Nat) : Int) by omega, show N + ((4 * q + k : Nat) : Int) + 1 = N + ((4 * q + (k + 1) : Nat) : Int) by omega]
    rfl
  rw [b_X5_four_0]
  refine Eq.trans lo ?_
  rw [b_X5_four_3, if_pos (by decide)]
  rfl
theorem m_append (md : Md fi ar) {x1 x2 x3 x4 x5 : Int32} : MM m g z kc (t_Ev (t_pg G) t_hd Y_X5_append 0 ([some (.ref m), (some (.int x1)), (some (.int x2)), (some (.int x3)), (some (.int x4)), (some (.int x5))], [], (hM m fi ar g, z))) (.inr (if 600 < fi 13 + 20 then -1 else fi 13 + 20)) (if 600 < fi 13 + 20 then fi else fU fi 13 (fi 13 + 20)) (if 600 < fi 13 + 20 then ar else aS ar 8 (apI (ar 8) (fi 13).toNat (w5 x1 x2 x3 x4 x5))) := by
  have n13 := md.n13
  have f13 : fU fi 7 0 13 = fi 13 := fU_n (by decide)
  rw [b_X5_append_0, mpI7, Option.bind_some, mgI13, Option.bind_some, f13]
  simp (disch := omega) only [iI_add, iI_lt]
  by_cases c : 600 < fi 13 + 20
  · rw [if_pos c, if_pos c, if_pos c, if_pos c]
    exact MM.ofQ md (MQr.v7 rfl)
  · rw [if_neg c, if_neg c, if_neg c, if_neg c]
    have md' : Md (fU fi 13 (fi 13 + 20)) (aS ar 8 (apI (ar 8) (fi 13).toNat (w5 x1 x2 x3 x4 x5))) := by
      refine ⟨md.w, md.b2, md.b3, md.c6, by rw [fU_s]; omega, ?_, md.kw, md.sw, md.f5, md.o14, md.o9⟩
      rw [aS_s]
      intro j
      unfold apI
      split
      · exact bt_b
      · exact md.ib j
    have ag : AG (fU fi 13 (fi 13 + 20)) (aS ar 8 (apI (ar 8) (fi 13).toNat (w5 x1 x2 x3 x4 x5))) (fU (fU fi 7 0) 13 (fi 13 + 20)) (aS ar 8 (apI (ar 8) (fi 13).toNat (w5 x1 x2 x3 x4 x5))) := ⟨rfl, fU_s.trans fU_s.symm, rfl, rfl, rfl, fun _ _ => rfl, fun _ _ => rfl, fun _ _ => rfl, fun _ _ => rfl, fun _ _ => rfl, fun _ _ => rfl⟩
    refine ⟨fU (fU fi 7 0) 13 (fi 13 + 20), aS ar 8 (apI (ar 8) (fi 13).toNat (w5 x1 x2 x3 x4 x5)), fi 13 + 20, ?_, ⟨rfl, rfl⟩, ag, md'.cg ag md.w.rb md.b2 md.b3 md'.ib⟩
    have fo : ∀ q, q < 5 → t_Ev (t_pg G) t_hd Y_X5_four 0 ([some (.ref m), (some (.int (w5 x1 x2 x3 x4 x5 q))), none], [], (hM m (fU (fU fi 7 0) 13 (fi 13 + ((4 * q : Nat) : Int))) (aS ar 8 (apJ (ar 8) (fi 13).toNat (w5 x1 x2 x3 x4 x5) (4 * q))) g, z)) = rV (hM m (fU (fU fi 7 0) 13 (fi 13 + ((4 * (q + 1) : Nat) : Int))) (aS ar 8 (apJ (ar 8) (fi 13).toNat (w5 x1 x2 x3 x4 x5) (4 * (q + 1)))) g, z) := fun q hq => e_four hq (by omega)
    have s0 : hM m (fU fi 7 0) ar g = hM m (fU (fU fi 7 0) 13 (fi 13 + ((4 * 0 : Nat) : Int))) (aS ar 8 (apJ (ar 8) (fi 13).toNat (w5 x1 x2 x3 x4 x5) (4 * 0))) g := by
      rw [show 4 * 0 = 0 from rfl, apJ_0, aS_id, show fi 13 + ((0 : Nat) : Int) = fU fi 7 0 13 by rw [f13]; omega]
      congr 1
      funext j
      by_cases e : j = 13
      · rw [e, fU_s]
      · rw [fU_n e]
    have g0 := fo 0 (by decide)
    have g1 := fo 1 (by decide)
    have g2 := fo 2 (by decide)
    have g3 := fo 3 (by decide)
    have g4 := fo 4 (by decide)
    rw [show w5 x1 x2 x3 x4 x5 0 = x1 from rfl] at g0
    rw [show w5 x1 x2 x3 x4 x5 1 = x2 from rfl] at g1
    rw [show w5 x1 x2 x3 x4 x5 2 = x3 from rfl] at g2
    rw [show w5 x1 x2 x3 x4 x5 3 = x4 from rfl] at g3
    rw [show w5 x1 x2 x3 x4 x5 4 = x5 from rfl] at g4
    rw [s0, mK, Option.bind_some, g0, bV_rV, mK, Option.bind_some, g1, bV_rV, mK, Option.bind_some, g2, bV_rV, mK, Option.bind_some, g3, bV_rV, mK, Option.bind_some, g4, bV_rV, mgI13, Option.bind_some, fU_s]
    rfl
/-- what is put out so far -/
def wtJ (old : Nat → Int) (s : tRow) (P : Nat) : Nat → Int := fun j => if j < P then wtL s j else old j
theorem wtJ_s {old : Nat → Int} {s : tRow} {P : Nat} : fU (wtJ old s P) P (wtL s P) = wtJ old s (P + 1) := by
  funext j
  unfold fU wtJ
  by_cases c : j = P
  · rw [if_pos c, if_pos (by omega), c]
  · rw [if_neg c]
    by_cases d : j < P
    · rw [if_pos d, if_pos (by omega)]
    · rw [if_neg d, if_neg (by omega)]
theorem e_out {P : Nat} {f0 : Nat → Int} {o : tRow} {s : tRow} (hP : P < 100) {c : Int} (hc : c = wtL s P) : t_Ev (t_pg G) t_hd Y_X5_out 0 ([some (.ref m), some (.int (iI c))], [], (hM m (fU f0 14 (P : Int)) (aS ar 9 (wtJ o s P)) g, z)) = rV (hM m (fU f0 14 ((P + 1 : Nat) : Int)) (aS ar 9 (wtJ o s (P + 1))) g, z) := by
  rw [b_X5_out_0, mgR9, Option.bind_some, mgI14, Option.bind_some, va_rf_some, fU_s, mst9 (by omega) (by omega), Option.bind_some, mgI14, Option.bind_some, fU_s, iI_add, mpI14, Option.bind_some, fU_fU, aU_aS, Int.toNat_natCast, hc, wtJ_s]
  rfl
theorem m_writeTrunk (md : Md fi ar) : MM m g z kc (t_Ev (t_pg G) t_hd Y_X5_writeTrunk 0 ([some (.ref m), none, none, none], [], (hM m fi ar g, z))) (.inr (wtN (ar 0) (ar 0 1).toNat)) (fU fi 14 (wtN (ar 0) (ar 0 1).toNat)) (aS ar 9 (wtL (ar 0))) := by
  have hD := md.w.bd.dm
  have hB := md.w.rb
  have d0 := md.w.bd.d0
  have d1 := md.w.bd.d1
  have n0 := tn_of hD.1.1
  have n1 := tn_of hD.2.1
  obtain ⟨C, hC⟩ : ∃ C, C = (ar 0 0).toNat := ⟨_, rfl⟩
  have C8 : C ≤ 8 := by omega
  have PB : ∀ y x : Nat, y ≤ 7 → x ≤ C → y * (C + 1) + x < 100 := fun y x hy hx => by
    have := Nat.mul_le_mul hy (show C + 1 ≤ 9 by omega)
    omega
  have row : ∀ y : Nat, (y : Int) < ar 0 1 → ∀ u : Option Value, ∃ u', t_Ev (t_pg G) t_hd Y_X5_writeTrunk 34 ([some (.ref m), some (.int (iI y)), some (.int (iI 0)), u], [], (hM m (fU (fU fi 7 0) 14 ((y * (C + 1) + 0 : Nat) : Int)) (aS ar 9 (wtJ (ar 9) (ar 0) (y * (C + 1) + 0))) g, z)) = t_Ev (t_pg G) t_hd Y_X5_writeTrunk 12 ([some (.ref m), some (.int (iI ((y + 1 : Nat) : Int))), some (.int (iI (ar 0 0))), u'], [], (hM m (fU (fU fi 7 0) 14 ((y * (C + 1) + C : Nat) : Int)) (aS ar 9 (wtJ (ar 9) (ar 0) (y * (C + 1) + C))) g, z)) := fun y hy u => by
    obtain ⟨u', e⟩ := lp_e0 (N := C) (F := fun x u => t_Ev (t_pg G) t_hd Y_X5_writeTrunk 34 ([some (.ref m), some (.int (iI y)), some (.int (iI (x : Int))), u], [], (hM m (fU (fU fi 7 0) 14 ((y * (C + 1) + x : Nat) : Int)) (aS ar 9 (wtJ (ar 9) (ar 0) (y * (C + 1) + x))) g, z))) (fun x hx u => by
      have hP := PB y x (by omega) (by omega)
      have a0 : aS ar 9 (wtJ (ar 9) (ar 0) (y * (C + 1) + x)) 0 = ar 0 := aS_n (by decide)
      have hc := hB.c x y
      have wt := wt_ce md (u := x) (w := y) (by omega) (by omega)
      have wl := wtL_at md (y := y) (k := x) (by omega)
      rw [← hC, if_neg (by omega)] at wl
      have ou : ∀ c, c = sgC (cI (ar 0) x y) → t_Ev (t_pg G) t_hd Y_X5_out 0 ([some (.ref m), some (.int (iI c))], [], (hM m (fU (fU fi 7 0) 14 ((y * (C + 1) + x : Nat) : Int)) (aS ar 9 (wtJ (ar 9) (ar 0) (y * (C + 1) + x))) g, z)) = rV (hM m (fU (fU fi 7 0) 14 ((y * (C + 1) + (x + 1) : Nat) : Int)) (aS ar 9 (wtJ (ar 9) (ar 0) (y * (C + 1) + (x + 1)))) g, z) := fun c h => e_out hP (h.trans wl.symm)
      refine ⟨some (.int (iI (pOf (ar 0) x y))), ?_⟩
      rw [b_X5_writeTrunk_34]
      simp (disch := omega) only [mK, mgI6, mgI7, mgI13, mgI14, mgI15, mgI16, mgI17, mgI18, mgI19, mgI20, mgI21, mgI22, mgI23, mgI24, mgI25, mgI26, mgI27, mgR0, mgR1, mgR2, mgR3, mgR4, mgR5, mgR8, mgR9, mgR10, mgR11, mgR12, Option.bind_some, va_rf_some, va_rf_none, bI_rI, bI_rB, bV_rV, bB_0, bB_1, iI_add, iI_sub, iI_mul, iI_neg, rI_of, rV_of, Int.reduceToNat, Int.neg_neg, mld0, iI_lt, a0]
      rw [if_pos (show (x : Int) < ar 0 0 by omega), e_pieceOf (by rw [a0]; exact hB) (by omega) (by omega), bI_rI, mK, Option.bind_some, e_cell (by omega) (by omega) (by omega) (by omega), bI_rI, a0]
      simp (disch := omega) only [iI_inj]
      unfold sgC at ou
      by_cases c0 : cI (ar 0) x y = 0
      · rw [if_pos c0, mK, Option.bind_some, ou 46 (by rw [if_pos c0]), bV_rV]
        rfl
      · rw [if_neg c0, mK, Option.bind_some, e_cell (by omega) (by omega) (by omega) (by omega), bI_rI, a0]
        simp (disch := omega) only [iI_inj]
        by_cases c1 : cI (ar 0) x y = 1
        · rw [if_pos c1, mK, Option.bind_some, ou 35 (by rw [if_neg c0, if_pos c1]), bV_rV]
          rfl
        · have pe : pOf (ar 0) x y = cI (ar 0) x y - 2 := by unfold pOf; rw [if_pos (by omega)]
          rw [if_neg c1, pe]
          simp (disch := omega) only [iI_lt]
          by_cases c2 : cI (ar 0) x y - 2 < 26
          · rw [if_pos c2, mK, Option.bind_some, iI_add, ou (97 + (cI (ar 0) x y - 2)) (by rw [if_neg c0, if_neg c1, if_pos c2]), bV_rV]
            rfl
          · rw [if_neg c2, mK, Option.bind_some, iI_add, ou (39 + (cI (ar 0) x y - 2)) (by rw [if_neg c0, if_neg c1, if_neg c2]), bV_rV]
            rfl) u
    refine ⟨u', Eq.trans e ?_⟩
    have a0 : aS ar 9 (wtJ (ar 9) (ar 0) (y * (C + 1) + C)) 0 = ar 0 := aS_n (by decide)
    rw [b_X5_writeTrunk_34]
    simp (disch := omega) only [mK, mgI6, mgI7, mgI13, mgI14, mgI15, mgI16, mgI17, mgI18, mgI19, mgI20, mgI21, mgI22, mgI23, mgI24, mgI25, mgI26, mgI27, mgR0, mgR1, mgR2, mgR3, mgR4, mgR5, mgR8, mgR9, mgR10, mgR11, mgR12, Option.bind_some, va_rf_some, va_rf_none, bI_rI, bI_rB, bV_rV, bB_0, bB_1, iI_add, iI_sub, iI_mul, iI_neg, rI_of, rV_of, Int.reduceToNat, Int.neg_neg, mld0, iI_lt, a0]
    rw [if_neg (by omega), show (C : Int) = ar 0 0 by omega]
    rfl
  obtain ⟨⟨u1, u2⟩, e⟩ := lp_e0 (N := (ar 0 1).toNat) (F := fun y (u : Option Value × Option Value) => t_Ev (t_pg G) t_hd Y_X5_writeTrunk 12 ([some (.ref m), some (.int (iI (y : Int))), u.1, u.2], [], (hM m (fU (fU fi 7 0) 14 ((wtN (ar 0) y : Nat) : Int)) (aS ar 9 (wtJ (ar 9) (ar 0) (wtN (ar 0) y))) g, z))) (fun y hy u => by
    have a0 : aS ar 9 (wtJ (ar 9) (ar 0) (wtN (ar 0) y)) 0 = ar 0 := aS_n (by decide)
    obtain ⟨u', er⟩ := row y (by omega) u.2
    have ws : wtN (ar 0) (y + 1) = y * (C + 1) + C := by rw [wtN_s, hC]
    refine ⟨(some (.int (iI (ar 0 0))), u'), ?_⟩
    try dsimp only
    rw [ws, ← er, b_X5_writeTrunk_12]
    simp (disch := omega) only [mK, mgI6, mgI7, mgI13, mgI14, mgI15, mgI16, mgI17, mgI18, mgI19, mgI20, mgI21, mgI22, mgI23, mgI24, mgI25, mgI26, mgI27, mgR0, mgR1, mgR2, mgR3, mgR4, mgR5, mgR8, mgR9, mgR10, mgR11, mgR12, Option.bind_some, va_rf_some, va_rf_none, bI_rI, bI_rB, bV_rV, bB_0, bB_1, iI_add, iI_sub, iI_mul, iI_neg, rI_of, rV_of, Int.reduceToNat, Int.neg_neg, mld0, iI_lt, a0]
    rw [if_pos (show (y : Int) < ar 0 1 by omega)]
    by_cases y0 : y = 0
    · subst y0
      rw [if_neg (by decide), show wtN (ar 0) 0 = 0 * (C + 1) + 0 by rw [Nat.zero_mul]; rfl]
    · obtain ⟨y', rfl⟩ : ∃ y', y = y' + 1 := ⟨y - 1, by omega⟩
      have ws' : wtN (ar 0) (y' + 1) = y' * (C + 1) + C := by rw [wtN_s, hC]
      have wl := wtL_at md (y := y') (k := C) (by omega)
      rw [← hC, if_pos rfl] at wl
      rw [if_pos (by omega), ws', e_out (PB y' C (by omega) (Nat.le_refl C)) wl.symm, bV_rV, show y' * (C + 1) + C + 1 = (y' + 1) * (C + 1) + 0 by rw [Nat.add_mul]; omega]) (none, none)
  obtain ⟨P, hP⟩ : ∃ P, P = wtN (ar 0) (ar 0 1).toNat := ⟨_, rfl⟩
  have Pb : P ≤ 71 := by
    obtain ⟨y, hy⟩ : ∃ y, (ar 0 1).toNat = y + 1 := ⟨(ar 0 1).toNat - 1, by omega⟩
    rw [hP, hy, wtN_s, ← hC]
    have := Nat.mul_le_mul (show y ≤ 7 by omega) (show C + 1 ≤ 9 by omega)
    omega
  have Pc : ∀ j, j < P → j / ((ar 0 0).toNat + 1) ≤ 7 := fun j hj => by
    obtain ⟨y, hy⟩ : ∃ y, (ar 0 1).toNat = y + 1 := ⟨(ar 0 1).toNat - 1, by omega⟩
    rw [hP, hy, wtN_s, ← hC] at hj
    rw [← hC]
    have : j / (C + 1) < y + 1 := (Nat.div_lt_iff_lt_mul (by omega)).mpr (by rw [Nat.add_mul]; omega)
    omega
  rw [← hP]
  dsimp only at e
  rw [← hP] at e
  have md' : Md (fU fi 14 (P : Int)) (aS ar 9 (wtL (ar 0))) := ⟨md.w, md.b2, md.b3, md.c6, md.n13, md.ib, md.kw, md.sw, md.f5, by rw [fU_s]; omega, fun j hj => by rw [fU_s] at hj; rw [aS_s]; exact wtL_b md (Pc j (by omega))⟩
  have ag : AG (fU fi 14 (P : Int)) (aS ar 9 (wtL (ar 0))) (fU (fU fi 7 0) 14 (P : Int)) (aS ar 9 (wtJ (ar 9) (ar 0) P)) := ⟨rfl, rfl, fU_s.trans fU_s.symm, rfl, rfl, fun _ _ => rfl, fun _ _ => rfl, fun _ _ => rfl, fun _ _ => rfl, fun _ _ => rfl, fun j hj => by
    rw [fU_s] at hj
    rw [aS_s, aS_s]
    unfold wtJ
    rw [if_pos (by omega)]⟩
  refine ⟨_, _, (P : Int), ?_, ⟨rfl, rfl⟩, ag, md'.cg ag md.w.rb md.b2 md.b3 md.ib⟩
  have a0 : aS ar 9 (wtJ (ar 9) (ar 0) P) 0 = ar 0 := aS_n (by decide)
  have s0 : hM m (fU (fU fi 7 0) 14 0) ar g = hM m (fU (fU fi 7 0) 14 ((wtN (ar 0) 0 : Nat) : Int)) (aS ar 9 (wtJ (ar 9) (ar 0) (wtN (ar 0) 0))) g := by
    have e9 : wtJ (ar 9) (ar 0) 0 = ar 9 := by
      funext j
      unfold wtJ
      rw [if_neg (Nat.not_lt_zero j)]
    rw [show wtN (ar 0) 0 = 0 from rfl, e9, aS_id]
    rfl
  rw [b_X5_writeTrunk_0, mpI7, Option.bind_some, mpI14, Option.bind_some, s0]
  refine Eq.trans e ?_
  rw [b_X5_writeTrunk_12]
  simp (disch := omega) only [mK, mgI6, mgI7, mgI13, mgI14, mgI15, mgI16, mgI17, mgI18, mgI19, mgI20, mgI21, mgI22, mgI23, mgI24, mgI25, mgI26, mgI27, mgR0, mgR1, mgR2, mgR3, mgR4, mgR5, mgR8, mgR9, mgR10, mgR11, mgR12, Option.bind_some, va_rf_some, va_rf_none, bI_rI, bI_rB, bV_rV, bB_0, bB_1, iI_add, iI_sub, iI_mul, iI_neg, rI_of, rV_of, Int.reduceToNat, Int.neg_neg, mld0, iI_lt, a0]
  rw [if_neg (by omega), fU_s]
end MMX
