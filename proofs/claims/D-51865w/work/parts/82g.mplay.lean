/-! ===== the model reads: players ===== -/
section PLT
variable {G : tG} {m : Nat} {fi : Nat → Int} {ar : Nat → Nat → Int} {g : tAH} {z : Nat × Nat} {D : Nat → Prop}
theorem tkL_b {inp : Nat → Int} {n p : Nat} (hp : p ≤ n) : (tkT inp n p : Int) - tkF inp n p = ((tkT inp n p - tkF inp n p : Nat) : Int) := by
  have := tkT_b (inp := inp) hp
  omega
theorem e_hasNameHere (hB : RB (ar 0)) {n p : Nat} (k : Tk fi ar n p) (hl : tkT (ar 8) n p - tkF (ar 8) n p ≤ 6) : t_Ev (t_pg G) t_hd Y_X5_hasNameHere 0 ([some (.ref m), some (.int (iI 0)), none, none], [], (hM m fi ar g, z)) = rB (namQ (ar 8) n (ar 0) p) (hM m fi ar g, z) := by
  have hb := tkT_b (inp := ar 8) k.hp
  have hL := tkL_b (inp := ar 8) k.hp
  have h6 := k.h6
  have h7 : 0 ≤ ofS (ar 0) 0 7 ∧ ofS (ar 0) 0 7 ≤ 1000000 := hB _
  rw [b_X5_hasNameHere_0]
  simp only [mK, mgI6, mgI7, mgI13, mgI14, mgI15, mgI16, mgI17, mgI18, mgI19, mgI20, mgI21, mgI22, mgI23, mgI24, mgI25, mgI26, mgI27, mgR0, mgR1, mgR2, mgR3, mgR4, mgR5, mgR8, mgR9, mgR10, mgR11, mgR12, Option.bind_some]
  rw [e_of (by decide) (by decide), bI_rI]
  simp only [mK, mgI6, mgI7, mgI13, mgI14, mgI15, mgI16, mgI17, mgI18, mgI19, mgI20, mgI21, mgI22, mgI23, mgI24, mgI25, mgI26, mgI27, mgR0, mgR1, mgR2, mgR3, mgR4, mgR5, mgR8, mgR9, mgR10, mgR11, mgR12, Option.bind_some, k.mt.2.1, k.mt.2.2.1, iI_sub, hL]
  unfold namQ
  generalize hLn : tkT (ar 8) n p - tkF (ar 8) n p = L at hL hl ⊢
  simp (disch := omega) only [iI_inj]
  by_cases c : ofS (ar 0) 0 7 = (L : Int)
  · rw [if_pos c, decide_eq_true c, Bool.true_and]
    refine (lp_all (N := L) (p := fun j => decide (ofS (ar 0) 0 (8 + (j : Int)) = ar 8 (tkF (ar 8) n p + j))) (F := fun j => t_Ev (t_pg G) t_hd Y_X5_hasNameHere 27 ([some (.ref m), some (.int (iI 0)), some (.int (iI 1)), some (.int (iI (j : Int)))], [], (hM m fi ar g, z))) (r := rB false (hM m fi ar g, z)) fun j hj => ?_).trans ?_
    · have hh := k.hI (tkF (ar 8) n p + j)
      have h8 : 0 ≤ ofS (ar 0) 0 (8 + (j : Int)) ∧ ofS (ar 0) 0 (8 + (j : Int)) ≤ 1000000 := hB _
      rw [b_X5_hasNameHere_27, if_neg (by decide)]
      simp (disch := omega) only [mK, mgI6, mgI7, mgI13, mgI14, mgI15, mgI16, mgI17, mgI18, mgI19, mgI20, mgI21, mgI22, mgI23, mgI24, mgI25, mgI26, mgI27, mgR0, mgR1, mgR2, mgR3, mgR4, mgR5, mgR8, mgR9, mgR10, mgR11, mgR12, Option.bind_some, k.mt.2.1, k.mt.2.2.1, iI_sub, hL, iI_lt, iI_add]
      rw [if_pos (by omega), e_of (by unfold plI; omega) (by unfold plI; omega), bI_rI]
      simp (disch := omega) only [mK, mgI6, mgI7, mgI13, mgI14, mgI15, mgI16, mgI17, mgI18, mgI19, mgI20, mgI21, mgI22, mgI23, mgI24, mgI25, mgI26, mgI27, mgR0, mgR1, mgR2, mgR3, mgR4, mgR5, mgR8, mgR9, mgR10, mgR11, mgR12, Option.bind_some, k.mt.2.1, iI_add, va_rf_some, mld8]
      rw [show ((tkF (ar 8) n p : Int) + (j : Int)).toNat = tkF (ar 8) n p + j by omega]
      simp (disch := omega) only [iI_inj]
      by_cases hd : ofS (ar 0) 0 (8 + (j : Int)) = ar 8 (tkF (ar 8) n p + j)
      · rw [if_pos hd, if_pos (decide_eq_true hd)]; rfl
      · rw [if_neg hd, if_neg (by rw [decide_eq_false hd]; decide), b_X5_hasNameHere_27, if_pos rfl, if_pos (by decide)]
        rfl
    · cases hd : al (fun j => decide (ofS (ar 0) 0 (8 + (j : Int)) = ar 8 (tkF (ar 8) n p + j))) L with
      | true =>
        rw [if_pos rfl, b_X5_hasNameHere_27, if_neg (by decide)]
        simp (disch := omega) only [mK, mgI6, mgI7, mgI13, mgI14, mgI15, mgI16, mgI17, mgI18, mgI19, mgI20, mgI21, mgI22, mgI23, mgI24, mgI25, mgI26, mgI27, mgR0, mgR1, mgR2, mgR3, mgR4, mgR5, mgR8, mgR9, mgR10, mgR11, mgR12, Option.bind_some, k.mt.2.1, k.mt.2.2.1, iI_sub, hL, iI_lt]
        rw [if_neg (by omega), if_pos (by decide)]
        rfl
      | false => rfl
  · rw [if_neg c, decide_eq_false c, b_X5_hasNameHere_27, if_pos rfl, if_pos (by decide)]
    rfl
/-- the name's first j letters put down -/
def namJ (inp : Nat → Int) (n : Nat) (s : tRow) (k : Int) (p : Nat) : Nat → tRow
  | 0 => fU s (plI k 7).toNat ((tkT inp n p - tkF inp n p : Nat) : Int)
  | j + 1 => fU (namJ inp n s k p j) (plI k (8 + (j : Int))).toNat (inp (tkF inp n p + j))
theorem namJ_P {inp : Nat → Int} {n : Nat} {s : tRow} {k : Int} {p : Nat} (hk : 0 ≤ k) : namJ inp n s k p (tkT inp n p - tkF inp n p) = namP inp n s k p := by
  have main : ∀ J : Nat, namJ inp n s k p J = fun j : Nat => if (j : Int) = plI k 7 then ((tkT inp n p - tkF inp n p : Nat) : Int) else if plI k 8 ≤ j ∧ (j : Int) < plI k 8 + (J : Int) then inp (tkF inp n p + ((j : Int) - plI k 8).toNat) else s j := by
    intro J
    induction J with
    | zero =>
      funext j
      rw [namJ]
      unfold fU plI
      by_cases c : j = (5 + k * 14 + 7).toNat
      · rw [if_pos c, if_pos (by omega)]
      · rw [if_neg c, if_neg (by omega), if_neg (by omega)]
    | succ J ih =>
      funext j
      rw [namJ, ih]
      unfold fU plI
      by_cases c : j = (5 + k * 14 + (8 + (J : Int))).toNat
      · rw [if_pos c, if_neg (by omega), if_pos (by omega)]
        exact congrArg (fun q => inp (tkF inp n p + q)) (by omega)
      · rw [if_neg c]
        try dsimp only
        by_cases c1 : (j : Int) = 5 + k * 14 + 7
        · rw [if_pos c1, if_pos c1]
        · rw [if_neg c1, if_neg c1]
          by_cases c2 : 5 + k * 14 + 8 ≤ (j : Int) ∧ (j : Int) < 5 + k * 14 + 8 + (J : Int)
          · rw [if_pos c2, if_pos (by omega)]
          · rw [if_neg c2, if_neg (by omega)]
  exact main _
theorem namP_rb {s : tRow} (h : RB s) {inp : Nat → Int} (hI : IB inp) {n p : Nat} {k : Int} (hl : tkT inp n p - tkF inp n p ≤ 6) : RB (namP inp n s k p) := fun j => by
  unfold namP
  split
  · omega
  · split
    · have := hI (tkF inp n p + ((j : Int) - plI k 8).toNat)
      omega
    · exact h j
theorem e_playerTold (W : Wds G m D g) (hB : RB (ar 0)) {n p : Nat} (k : Pk fi ar n p) {q : Int} (hq : q = 0 ∨ q = 1) : ∃ fi' ar', t_Ev (t_pg G) t_hd Y_X5_playerTold 0 ([some (.ref m), some (.int (iI q)), none], [], (hM m fi ar g, z)) = rV (hM m fi' ar' g, z) ∧ Sc PI PJ fi ar fi' ar' ∧ Res (playerS (ar 8) n q (ar 0) p) fi' ar' n := by
  have bad : ∀ (f : Nat → Int) (c : Int), t_Ev (t_pg G) t_hd Y_X5_playerTold 80 ([some (.ref m), some (.int (iI q)), none], [(.ref m)], (hM m (Wr f c) ar g, z)) = rV (hM m (Wr f c) ar g, z) := fun f c => by
    rw [b_X5_playerTold_80, b_X5_playerTold_81]
    simp only [mK, mgI6, mgI7, mgI13, mgI14, mgI15, mgI16, mgI17, mgI18, mgI19, mgI20, mgI21, mgI22, mgI23, mgI24, mgI25, mgI26, mgI27, mgR0, mgR1, mgR2, mgR3, mgR4, mgR5, mgR8, mgR9, mgR10, mgR11, mgR12, Option.bind_some, va_rf_some, va_rf_none, bI_rI, bI_rB, bV_rV, bB_0, bB_1, iI_add, iI_sub, iI_mul, iI_neg, rI_of, rV_of, Int.reduceToNat, Int.neg_neg, mld0, e_here_w Wr_22, e_number_w Wr_22, e_wrong_w Wr_22, e_go_w Wr_22, e_semicolon_w Wr_22, Wr_22, i10, if_false]
  rw [b_X5_playerTold_0]
  simp only [mK, mgI6, mgI7, mgI13, mgI14, mgI15, mgI16, mgI17, mgI18, mgI19, mgI20, mgI21, mgI22, mgI23, mgI24, mgI25, mgI26, mgI27, mgR0, mgR1, mgR2, mgR3, mgR4, mgR5, mgR8, mgR9, mgR10, mgR11, mgR12, Option.bind_some, e_isW W.ot W.player (by decide) k.tk, bI_rB, bB_0]
  unfold playerS
  cases wrd (ar 8) n p wPlayer with
  | false =>
    rw [if_pos rfl, ckS_nt, b_X5_playerTold_15]
    simp only [mK, mgI6, mgI7, mgI13, mgI14, mgI15, mgI16, mgI17, mgI18, mgI19, mgI20, mgI21, mgI22, mgI23, mgI24, mgI25, mgI26, mgI27, mgR0, mgR1, mgR2, mgR3, mgR4, mgR5, mgR8, mgR9, mgR10, mgR11, mgR12, Option.bind_some, va_rf_some, va_rf_none, bI_rI, bI_rB, bV_rV, bB_0, bB_1, iI_add, iI_sub, iI_mul, iI_neg, rI_of, rV_of, Int.reduceToNat, Int.neg_neg, e_wrong_t k.h22, e_go_w Wr_22]
    have t51 : ∀ b : Int, t_Ev (t_pg G) t_hd Y_X5_playerTold 51 ([some (.ref m), some (.int (iI q)), none], [.int (iI b), (.ref m)], (hM m (Wr fi 1) ar g, z)) = rV (hM m (Wr fi 1) ar g, z) := fun b => by
      rw [b_X5_playerTold_51]
      simp only [mK, mgI6, mgI7, mgI13, mgI14, mgI15, mgI16, mgI17, mgI18, mgI19, mgI20, mgI21, mgI22, mgI23, mgI24, mgI25, mgI26, mgI27, mgR0, mgR1, mgR2, mgR3, mgR4, mgR5, mgR8, mgR9, mgR10, mgR11, mgR12, Option.bind_some, va_rf_some, va_rf_none, bI_rI, bI_rB, bV_rV, bB_0, bB_1, iI_add, iI_sub, iI_mul, iI_neg, rI_of, rV_of, Int.reduceToNat, Int.neg_neg, mld0, e_here_w Wr_22, e_number_w Wr_22, e_wrong_w Wr_22, e_go_w Wr_22, e_semicolon_w Wr_22, Wr_22, i10, if_false]
      exact bad _ _
    refine ⟨_, _, ?_, Sc.refl.pw, Res.er k.tk⟩
    split
    · split
      · rw [b_X5_playerTold_46]; exact t51 1
      · exact t51 0
    · rw [b_X5_playerTold_46]; exact t51 1
  | true =>
  obtain ⟨f1, e1, s1, k1⟩ := e_go (G := G) (m := m) (g := g) (z := z) k
  have hk1 := tkK_b (inp := ar 8) (n := n) (p := tkT (ar 8) n p)
  have hL := tkL_b (inp := ar 8) k1.hp
  have hb := tkT_b (inp := ar 8) k1.hp
  have h6 := k.h6
  rw [if_neg (by decide), ckS_nf, b_X5_playerTold_15]
  simp only [mK, mgI6, mgI7, mgI13, mgI14, mgI15, mgI16, mgI17, mgI18, mgI19, mgI20, mgI21, mgI22, mgI23, mgI24, mgI25, mgI26, mgI27, mgR0, mgR1, mgR2, mgR3, mgR4, mgR5, mgR8, mgR9, mgR10, mgR11, mgR12, Option.bind_some, va_rf_some, va_rf_none, bI_rI, bI_rB, bV_rV, bB_0, bB_1, iI_add, iI_sub, iI_mul, iI_neg, rI_of, rV_of, Int.reduceToNat, Int.neg_neg, e_wrong_f]
  rw [e1, bV_rV]
  simp (disch := omega) only [mK, mgI6, mgI7, mgI13, mgI14, mgI15, mgI16, mgI17, mgI18, mgI19, mgI20, mgI21, mgI22, mgI23, mgI24, mgI25, mgI26, mgI27, mgR0, mgR1, mgR2, mgR3, mgR4, mgR5, mgR8, mgR9, mgR10, mgR11, mgR12, Option.bind_some, va_rf_some, va_rf_none, bI_rI, bI_rB, bV_rV, bB_0, bB_1, iI_add, iI_sub, iI_mul, iI_neg, rI_of, rV_of, Int.reduceToNat, Int.neg_neg, k1.mt.1, k1.mt.2.1, k1.mt.2.2.1, iI_inj, hL, iI_lt]
  have t1 : t_Ev (t_pg G) t_hd Y_X5_playerTold 46 ([some (.ref m), some (.int (iI q)), none], [(.ref m)], (hM m f1 ar g, z)) = rV (hM m (Wr f1 1) ar g, z) := by
    rw [b_X5_playerTold_46, b_X5_playerTold_51]
    simp only [mK, mgI6, mgI7, mgI13, mgI14, mgI15, mgI16, mgI17, mgI18, mgI19, mgI20, mgI21, mgI22, mgI23, mgI24, mgI25, mgI26, mgI27, mgR0, mgR1, mgR2, mgR3, mgR4, mgR5, mgR8, mgR9, mgR10, mgR11, mgR12, Option.bind_some, va_rf_some, va_rf_none, bI_rI, bI_rB, bV_rV, bB_0, bB_1, iI_add, iI_sub, iI_mul, iI_neg, rI_of, rV_of, Int.reduceToNat, Int.neg_neg, e_wrong_t k1.h22, Wr_22, i10, if_false]
    exact bad _ _
  by_cases c1 : tkK (ar 8) n (tkT (ar 8) n p) = 1
  case neg =>
    rw [if_neg c1, t1, ckS_t (by rw [decide_eq_false c1]; rfl)]
    exact ⟨_, _, rfl, s1.pi.pw, Res.er k1.tk⟩
  rw [if_pos c1]
  by_cases c2 : 6 < tkT (ar 8) n (tkT (ar 8) n p) - tkF (ar 8) n (tkT (ar 8) n p)
  · rw [if_pos (by omega), t1, ckS_t (by rw [decide_eq_true c2, Bool.or_true])]
    exact ⟨_, _, rfl, s1.pi.pw, Res.er k1.tk⟩
  rw [if_neg (by omega), ckS_f (by rw [decide_eq_true c1, decide_eq_false c2]; rfl), b_X5_playerTold_51]
  simp only [mK, mgI6, mgI7, mgI13, mgI14, mgI15, mgI16, mgI17, mgI18, mgI19, mgI20, mgI21, mgI22, mgI23, mgI24, mgI25, mgI26, mgI27, mgR0, mgR1, mgR2, mgR3, mgR4, mgR5, mgR8, mgR9, mgR10, mgR11, mgR12, Option.bind_some, va_rf_some, va_rf_none, bI_rI, bI_rB, bV_rV, bB_0, bB_1, iI_add, iI_sub, iI_mul, iI_neg, rI_of, rV_of, Int.reduceToNat, Int.neg_neg, e_wrong_f, k1.h22, if_true]
  rw [e_hasNameHere hB k1.tk (by omega), bI_rB]
  simp only [bB_0]
  have t0 : (if iI q = iI 1 then (if namQ (ar 8) n (ar 0) (tkT (ar 8) n p) = false then t_Ev (t_pg G) t_hd Y_X5_playerTold 80 ([some (.ref m), some (.int (iI q)), none], [(.ref m)], (hM m f1 ar g, z)) else t_Ev (t_pg G) t_hd Y_X5_playerTold 81 ([some (.ref m), some (.int (iI q)), none], [.int (iI 1), (.ref m)], (hM m f1 ar g, z))) else t_Ev (t_pg G) t_hd Y_X5_playerTold 80 ([some (.ref m), some (.int (iI q)), none], [(.ref m)], (hM m f1 ar g, z))) = if (q = 1 ∧ namQ (ar 8) n (ar 0) (tkT (ar 8) n p) = true) then rV (hM m (Wr f1 4) ar g, z) else t_Ev (t_pg G) t_hd Y_X5_playerTold 81 ([some (.ref m), some (.int (iI q)), none], [.int (iI 0), (.ref m)], (hM m f1 ar g, z)) := by
    rcases hq with rfl | rfl
    · rw [if_neg (by decide), if_neg (fun w => absurd w.1 (by decide)), b_X5_playerTold_80]
    · rw [if_pos rfl]
      cases namQ (ar 8) n (ar 0) (tkT (ar 8) n p) with
      | true =>
        rw [if_neg (by decide), if_pos ⟨rfl, rfl⟩, b_X5_playerTold_81]
        simp only [mK, mgI6, mgI7, mgI13, mgI14, mgI15, mgI16, mgI17, mgI18, mgI19, mgI20, mgI21, mgI22, mgI23, mgI24, mgI25, mgI26, mgI27, mgR0, mgR1, mgR2, mgR3, mgR4, mgR5, mgR8, mgR9, mgR10, mgR11, mgR12, Option.bind_some, va_rf_some, va_rf_none, bI_rI, bI_rB, bV_rV, bB_0, bB_1, iI_add, iI_sub, iI_mul, iI_neg, rI_of, rV_of, Int.reduceToNat, Int.neg_neg, e_wrong_t k1.h22, Wr_22, i10, if_false]
      | false => rw [if_pos rfl, if_neg (fun w => absurd w.2 (by decide)), b_X5_playerTold_80]
  rw [t0]
  by_cases c3 : q = 1 ∧ namQ (ar 8) n (ar 0) (tkT (ar 8) n p) = true
  · rw [if_pos c3, ckS_t (by rw [decide_eq_true c3.1, c3.2]; rfl)]
    exact ⟨_, _, rfl, s1.pi.pw, Res.er k1.tk⟩
  have c3' : (decide (q = 1) && namQ (ar 8) n (ar 0) (tkT (ar 8) n p)) = false := by
    cases hh : (decide (q = 1) && namQ (ar 8) n (ar 0) (tkT (ar 8) n p)) with
    | false => rfl
    | true =>
      rw [Bool.and_eq_true] at hh
      exact absurd ⟨of_decide_eq_true hh.1, hh.2⟩ c3
  rw [if_neg c3, ckS_f c3', b_X5_playerTold_81]
  simp only [mK, mgI6, mgI7, mgI13, mgI14, mgI15, mgI16, mgI17, mgI18, mgI19, mgI20, mgI21, mgI22, mgI23, mgI24, mgI25, mgI26, mgI27, mgR0, mgR1, mgR2, mgR3, mgR4, mgR5, mgR8, mgR9, mgR10, mgR11, mgR12, Option.bind_some, va_rf_some, va_rf_none, bI_rI, bI_rB, bV_rV, bB_0, bB_1, iI_add, iI_sub, iI_mul, iI_neg, rI_of, rV_of, Int.reduceToNat, Int.neg_neg, e_wrong_f, k1.h22, if_true, k1.mt.2.1, k1.mt.2.2.1, hL]
  rw [e_put (by unfold plI; omega) (by unfold plI; omega), bV_rV]
  -- the letters
  generalize hP : tkT (ar 8) n p = P at k1 hk1 hL hb c1 c2 c3 ⊢
  generalize hLn : tkT (ar 8) n P - tkF (ar 8) n P = L at hL c2 ⊢
  have lo : ∀ j, j < L → t_Ev (t_pg G) t_hd Y_X5_playerTold 111 ([some (.ref m), some (.int (iI q)), some (.int (iI (j : Int)))], [], (hM m f1 (fun k => if k = 0 then namJ (ar 8) n (ar 0) q P j else ar k) g, z)) = t_Ev (t_pg G) t_hd Y_X5_playerTold 111 ([some (.ref m), some (.int (iI q)), some (.int (iI ((j + 1 : Nat) : Int)))], [], (hM m f1 (fun k => if k = 0 then namJ (ar 8) n (ar 0) q P (j + 1) else ar k) g, z)) := by
    intro j hj
    rw [b_X5_playerTold_111]
    simp (disch := omega) only [mK, mgI6, mgI7, mgI13, mgI14, mgI15, mgI16, mgI17, mgI18, mgI19, mgI20, mgI21, mgI22, mgI23, mgI24, mgI25, mgI26, mgI27, mgR0, mgR1, mgR2, mgR3, mgR4, mgR5, mgR8, mgR9, mgR10, mgR11, mgR12, Option.bind_some, va_rf_some, va_rf_none, bI_rI, bI_rB, bV_rV, bB_0, bB_1, iI_add, iI_sub, iI_mul, iI_neg, rI_of, rV_of, Int.reduceToNat, Int.neg_neg, k1.mt.2.1, k1.mt.2.2.1, hL, iI_lt]
    rw [if_pos (by omega)]
    simp (disch := omega) only [Option.bind_some, va_rf_some, va_rf_none, bI_rI, bI_rB, bV_rV, bB_0, bB_1, iI_add, iI_sub, iI_mul, iI_neg, rI_of, rV_of, Int.reduceToNat, Int.neg_neg, mld8]
    rw [if_neg (by decide), e_put (by unfold plI; omega) (by unfold plI; omega), bV_rV, show ((tkF (ar 8) n P : Int) + (j : Int)).toNat = tkF (ar 8) n P + j by omega]
    refine congrArg (fun a => t_Ev (t_pg G) t_hd Y_X5_playerTold 111 ([some (.ref m), some (.int (iI q)), some (.int (iI ((j : Int) + 1)))], [], (hM m f1 a g, z))) ?_
    funext k'
    unfold aU
    by_cases c : k' = 0
    · rw [if_pos c, if_pos c, c]; rfl
    · rw [if_neg c, if_neg c]; exact if_neg c
  have lo2 : t_Ev (t_pg G) t_hd Y_X5_playerTold 111 ([some (.ref m), some (.int (iI q)), some (.int (iI 0))], [], (hM m f1 (fun k => if k = 0 then namJ (ar 8) n (ar 0) q P 0 else ar k) g, z)) = t_Ev (t_pg G) t_hd Y_X5_playerTold 111 ([some (.ref m), some (.int (iI q)), some (.int (iI (L : Int)))], [], (hM m f1 (fun k => if k = 0 then namJ (ar 8) n (ar 0) q P L else ar k) g, z)) := lp_up (N := L) (F := fun j => t_Ev (t_pg G) t_hd Y_X5_playerTold 111 ([some (.ref m), some (.int (iI q)), some (.int (iI (j : Int)))], [], (hM m f1 (fun k => if k = 0 then namJ (ar 8) n (ar 0) q P j else ar k) g, z))) lo
  have st : aU ar 0 (plI q 7).toNat (L : Int) = fun k => if k = 0 then namJ (ar 8) n (ar 0) q P 0 else ar k := by
    funext k'
    unfold aU
    by_cases c : k' = 0
    · rw [if_pos c, if_pos c, c, namJ, hLn]
    · rw [if_neg c, if_neg c]
  rw [st]
  rw [lo2]
  have eN : namJ (ar 8) n (ar 0) q P L = namP (ar 8) n (ar 0) q P := by
    have := namJ_P (inp := ar 8) (n := n) (s := ar 0) (p := P) (k := q) (by omega)
    rw [hLn] at this
    exact this
  rw [eN]
  obtain ⟨a1, ha1⟩ : ∃ a1, a1 = (fun k => if k = 0 then namP (ar 8) n (ar 0) q P else ar k) := ⟨_, rfl⟩
  rw [← ha1]
  have a10 : a1 0 = namP (ar 8) n (ar 0) q P := by rw [ha1]; rfl
  have a18 : a1 8 = ar 8 := by rw [ha1]; rfl
  have sa : Sc PI PJ f1 ar f1 a1 := ⟨fun _ _ => rfl, fun k' hk' => by rw [ha1]; dsimp only; rw [if_neg (fun e => hk' (by rw [e]; decide))]⟩
  have k1' : Pk f1 a1 n P := k1.cg (I := []) (A := [0]) ⟨fun _ _ => rfl, fun k' hk' => by rw [ha1]; dsimp only; rw [if_neg (fun e => hk' (by rw [e]; decide))]⟩ (fun _ _ h => nomatch h) (by decide) (by rw [a10]; exact namP_rb hB k.hI (by omega))
  obtain ⟨f2, e2, s2, k2⟩ := e_go (G := G) (m := m) (g := g) (z := z) k1'
  rw [a18] at k2
  rw [b_X5_playerTold_111]
  simp (disch := omega) only [mK, mgI6, mgI7, mgI13, mgI14, mgI15, mgI16, mgI17, mgI18, mgI19, mgI20, mgI21, mgI22, mgI23, mgI24, mgI25, mgI26, mgI27, mgR0, mgR1, mgR2, mgR3, mgR4, mgR5, mgR8, mgR9, mgR10, mgR11, mgR12, Option.bind_some, va_rf_some, va_rf_none, bI_rI, bI_rB, bV_rV, bB_0, bB_1, iI_add, iI_sub, iI_mul, iI_neg, rI_of, rV_of, Int.reduceToNat, Int.neg_neg, k1.mt.2.1, k1.mt.2.2.1, hL, iI_lt]
  rw [if_neg (by omega), e2, bV_rV]
  -- the supplies
  have bad3 : ∀ (d j : Nat) (f : Nat → Int) (a : Nat → Nat → Int) (c : Int), j + d = 5 → RB (a 0) → ∃ a', t_Ev (t_pg G) t_hd Y_X5_playerTold 156 ([some (.ref m), some (.int (iI q)), some (.int (iI (j : Int)))], [], (hM m (Wr f c) a g, z)) = rV (hM m (Wr f c) a' g, z) ∧ Sc [] [0] (Wr f c) a (Wr f c) a' ∧ RB (a' 0) := by
    intro d
    induction d with
    | zero =>
      intro j f a c hj ha
      rw [b_X5_playerTold_156]
      simp (disch := omega) only [iI_lt]
      rw [if_neg (by omega)]
      simp (disch := omega) only [mK, mgI6, mgI7, mgI13, mgI14, mgI15, mgI16, mgI17, mgI18, mgI19, mgI20, mgI21, mgI22, mgI23, mgI24, mgI25, mgI26, mgI27, mgR0, mgR1, mgR2, mgR3, mgR4, mgR5, mgR8, mgR9, mgR10, mgR11, mgR12, Option.bind_some, va_rf_some, va_rf_none, bI_rI, bI_rB, bV_rV, bB_0, bB_1, iI_add, iI_sub, iI_mul, iI_neg, rI_of, rV_of, Int.reduceToNat, Int.neg_neg, mld0, e_here_w Wr_22, e_number_w Wr_22, e_wrong_w Wr_22, e_go_w Wr_22, e_semicolon_w Wr_22, Wr_22, i10, if_false]
      rw [e_put (by unfold plI; omega) (by unfold plI; omega), bV_rV]
      simp only [mK, mgI6, mgI7, mgI13, mgI14, mgI15, mgI16, mgI17, mgI18, mgI19, mgI20, mgI21, mgI22, mgI23, mgI24, mgI25, mgI26, mgI27, mgR0, mgR1, mgR2, mgR3, mgR4, mgR5, mgR8, mgR9, mgR10, mgR11, mgR12, Option.bind_some, va_rf_some, va_rf_none, bI_rI, bI_rB, bV_rV, bB_0, bB_1, iI_add, iI_sub, iI_mul, iI_neg, rI_of, rV_of, Int.reduceToNat, Int.neg_neg, mld0, e_here_w Wr_22, e_number_w Wr_22, e_wrong_w Wr_22, e_go_w Wr_22, e_semicolon_w Wr_22, Wr_22, i10, if_false]
      exact ⟨_, rfl, Sc.refl.aU (by decide), by rw [aU_s]; exact ha.set (by decide)⟩
    | succ d ih =>
      intro j f a c hj ha
      rw [b_X5_playerTold_156]
      simp (disch := omega) only [iI_lt]
      rw [if_pos (by omega)]
      simp (disch := omega) only [mK, mgI6, mgI7, mgI13, mgI14, mgI15, mgI16, mgI17, mgI18, mgI19, mgI20, mgI21, mgI22, mgI23, mgI24, mgI25, mgI26, mgI27, mgR0, mgR1, mgR2, mgR3, mgR4, mgR5, mgR8, mgR9, mgR10, mgR11, mgR12, Option.bind_some, va_rf_some, va_rf_none, bI_rI, bI_rB, bV_rV, bB_0, bB_1, iI_add, iI_sub, iI_mul, iI_neg, rI_of, rV_of, Int.reduceToNat, Int.neg_neg, mld0, e_here_w Wr_22, e_number_w Wr_22, e_wrong_w Wr_22, e_go_w Wr_22, e_semicolon_w Wr_22, Wr_22, i10, if_false]
      rw [e_put (by unfold plI; omega) (by unfold plI; omega), bV_rV]
      obtain ⟨a', e', s', b'⟩ := ih (j + 1) f (aU a 0 (plI q (2 + (j : Int))).toNat 0) c (by omega) (by rw [aU_s]; exact ha.set (by decide))
      exact ⟨a', e', (Sc.refl.aU (by decide)).trans s', b'⟩
  have pb : ∀ w : Int, 0 ≤ w ∧ w ≤ 13 → 0 ≤ plI q w ∧ plI q w < 417 := fun w hw => by
    unfold plI
    omega
  have sup : ∀ (d j : Nat) (f : Nat → Int) (a : Nat → Nat → Int) (u : Nat), j + d = 5 → a 8 = ar 8 → Pk f a n u → ∃ fi' ar', t_Ev (t_pg G) t_hd Y_X5_playerTold 156 ([some (.ref m), some (.int (iI q)), some (.int (iI (j : Int)))], [], (hM m f a g, z)) = rV (hM m fi' ar' g, z) ∧ Sc PI PJ f a fi' ar' ∧ Res (supS (ar 8) n q d j (a 0) u) fi' ar' n := by
    intro d
    induction d with
    | zero =>
      intro j f a u hj h8 ku
      rw [b_X5_playerTold_156]
      simp (disch := omega) only [iI_lt]
      rw [if_neg (by omega)]
      have pw := pb 1 (by decide)
      simp only [mK, mgI6, mgI7, mgI13, mgI14, mgI15, mgI16, mgI17, mgI18, mgI19, mgI20, mgI21, mgI22, mgI23, mgI24, mgI25, mgI26, mgI27, mgR0, mgR1, mgR2, mgR3, mgR4, mgR5, mgR8, mgR9, mgR10, mgR11, mgR12, Option.bind_some, va_rf_some, va_rf_none, bI_rI, bI_rB, bV_rV, bB_0, bB_1, iI_add, iI_sub, iI_mul, iI_neg, rI_of, rV_of, Int.reduceToNat, Int.neg_neg]
      obtain ⟨y3, n3⟩ := e_number (G := G) (m := m) (g := g) (z := z) ku (lo := 0) (hi := 9) (by omega) (by omega)
      rw [h8] at y3 n3
      rw [supS]
      by_cases c : hC (ar 8) n 0 9 u = 0
      · obtain ⟨f3, e3, s3, k3⟩ := y3 c
        rw [nuS_ok c, e3, bI_rI]
        simp only [mK, mgI6, mgI7, mgI13, mgI14, mgI15, mgI16, mgI17, mgI18, mgI19, mgI20, mgI21, mgI22, mgI23, mgI24, mgI25, mgI26, mgI27, mgR0, mgR1, mgR2, mgR3, mgR4, mgR5, mgR8, mgR9, mgR10, mgR11, mgR12, Option.bind_some, va_rf_some, va_rf_none, bI_rI, bI_rB, bV_rV, bB_0, bB_1, iI_add, iI_sub, iI_mul, iI_neg, rI_of, rV_of, Int.reduceToNat, Int.neg_neg]
        rw [e_put pw.1 pw.2, bV_rV]
        simp only [mK, mgI6, mgI7, mgI13, mgI14, mgI15, mgI16, mgI17, mgI18, mgI19, mgI20, mgI21, mgI22, mgI23, mgI24, mgI25, mgI26, mgI27, mgR0, mgR1, mgR2, mgR3, mgR4, mgR5, mgR8, mgR9, mgR10, mgR11, mgR12, Option.bind_some, va_rf_some, va_rf_none, bI_rI, bI_rB, bV_rV, bB_0, bB_1, iI_add, iI_sub, iI_mul, iI_neg, rI_of, rV_of, Int.reduceToNat, Int.neg_neg]
        have k4 : Pk f3 (aU a 0 (plI q 1).toNat (tkV (ar 8) n u)) n (tkT (ar 8) n u) := k3.cg (I := []) (A := [0]) (Sc.refl.aU (by decide)) (fun _ _ h => nomatch h) (by decide) (by rw [aU_s]; exact k3.hb.set ⟨(hC_ok c).2.1, Int.le_trans (hC_ok c).2.2 (by decide)⟩)
        obtain ⟨y5, n5⟩ := e_semicolon (G := G) (m := m) (g := g) (z := z) k4
        have h8' : aU a 0 (plI q 1).toNat (tkV (ar 8) n u) 8 = ar 8 := (aU_n (by decide)).trans h8
        rw [h8'] at y5 n5
        by_cases c5 : tkK (ar 8) n (tkT (ar 8) n u) = 3
        · obtain ⟨f5, e5, s5, k5⟩ := y5 c5
          rw [e5, bV_rV, ckS_f (by rw [decide_eq_true c5]; rfl)]
          exact ⟨_, _, rfl, (s3.pi.trans (Sc.refl.aU (by decide))).trans s5.pi, Res.inr aU_s k5⟩
        · rw [n5 c5, bV_rV, ckS_t (by rw [decide_eq_false c5]; rfl)]
          refine ⟨_, _, rfl, (s3.pi.trans (Sc.refl.aU (by decide))).pw, ?_⟩
          have := Res.er k4.tk (c := 1)
          rw [h8'] at this
          exact this
      · rw [nuS_er c, n3 c, bI_rI]
        simp only [mK, mgI6, mgI7, mgI13, mgI14, mgI15, mgI16, mgI17, mgI18, mgI19, mgI20, mgI21, mgI22, mgI23, mgI24, mgI25, mgI26, mgI27, mgR0, mgR1, mgR2, mgR3, mgR4, mgR5, mgR8, mgR9, mgR10, mgR11, mgR12, Option.bind_some, va_rf_some, va_rf_none, bI_rI, bI_rB, bV_rV, bB_0, bB_1, iI_add, iI_sub, iI_mul, iI_neg, rI_of, rV_of, Int.reduceToNat, Int.neg_neg]
        rw [e_put pw.1 pw.2, bV_rV]
        simp only [mK, mgI6, mgI7, mgI13, mgI14, mgI15, mgI16, mgI17, mgI18, mgI19, mgI20, mgI21, mgI22, mgI23, mgI24, mgI25, mgI26, mgI27, mgR0, mgR1, mgR2, mgR3, mgR4, mgR5, mgR8, mgR9, mgR10, mgR11, mgR12, Option.bind_some, va_rf_some, va_rf_none, bI_rI, bI_rB, bV_rV, bB_0, bB_1, iI_add, iI_sub, iI_mul, iI_neg, rI_of, rV_of, Int.reduceToNat, Int.neg_neg, mld0, e_here_w Wr_22, e_number_w Wr_22, e_wrong_w Wr_22, e_go_w Wr_22, e_semicolon_w Wr_22, Wr_22, i10, if_false]
        refine ⟨_, _, rfl, Sc.trans (Sc.pw Sc.refl) (Sc.refl.aU (by decide)), ?_⟩
        have := Res.er ku.tk (c := hC (ar 8) n 0 9 u)
        rw [h8] at this
        exact ⟨this.1, this.2.1, this.2.2.1, by rw [aU_s]; exact ku.hb.set (by decide)⟩
    | succ d ih =>
      intro j f a u hj h8 ku
      rw [b_X5_playerTold_156]
      simp (disch := omega) only [iI_lt]
      rw [if_pos (by omega)]
      have pw := pb (2 + (j : Int)) (by omega)
      have hj1 : j + 1 + d = 5 := by omega
      simp only [mK, mgI6, mgI7, mgI13, mgI14, mgI15, mgI16, mgI17, mgI18, mgI19, mgI20, mgI21, mgI22, mgI23, mgI24, mgI25, mgI26, mgI27, mgR0, mgR1, mgR2, mgR3, mgR4, mgR5, mgR8, mgR9, mgR10, mgR11, mgR12, Option.bind_some, va_rf_some, va_rf_none, bI_rI, bI_rB, bV_rV, bB_0, bB_1, iI_add, iI_sub, iI_mul, iI_neg, rI_of, rV_of, Int.reduceToNat, Int.neg_neg]
      obtain ⟨y3, n3⟩ := e_number (G := G) (m := m) (g := g) (z := z) ku (lo := 0) (hi := 9) (by omega) (by omega)
      rw [h8] at y3 n3
      rw [supS]
      by_cases c : hC (ar 8) n 0 9 u = 0
      · obtain ⟨f3, e3, s3, k3⟩ := y3 c
        rw [nuS_ok c, e3, bI_rI]
        simp only [mK, mgI6, mgI7, mgI13, mgI14, mgI15, mgI16, mgI17, mgI18, mgI19, mgI20, mgI21, mgI22, mgI23, mgI24, mgI25, mgI26, mgI27, mgR0, mgR1, mgR2, mgR3, mgR4, mgR5, mgR8, mgR9, mgR10, mgR11, mgR12, Option.bind_some, va_rf_some, va_rf_none, bI_rI, bI_rB, bV_rV, bB_0, bB_1, iI_add, iI_sub, iI_mul, iI_neg, rI_of, rV_of, Int.reduceToNat, Int.neg_neg]
        rw [e_put pw.1 pw.2, bV_rV]
        have k4 : Pk f3 (aU a 0 (plI q (2 + (j : Int))).toNat (tkV (ar 8) n u)) n (tkT (ar 8) n u) := k3.cg (I := []) (A := [0]) (Sc.refl.aU (by decide)) (fun _ _ h => nomatch h) (by decide) (by rw [aU_s]; exact k3.hb.set ⟨(hC_ok c).2.1, Int.le_trans (hC_ok c).2.2 (by decide)⟩)
        obtain ⟨f5, a5, e5, s5, r5⟩ := ih (j + 1) f3 (aU a 0 (plI q (2 + (j : Int))).toNat (tkV (ar 8) n u)) (tkT (ar 8) n u) hj1 ((aU_n (by decide)).trans h8) k4
        rw [aU_s] at r5
        exact ⟨f5, a5, e5, (s3.pi.trans (Sc.refl.aU (by decide))).trans s5, r5⟩
      · rw [nuS_er c, n3 c, bI_rI]
        simp only [mK, mgI6, mgI7, mgI13, mgI14, mgI15, mgI16, mgI17, mgI18, mgI19, mgI20, mgI21, mgI22, mgI23, mgI24, mgI25, mgI26, mgI27, mgR0, mgR1, mgR2, mgR3, mgR4, mgR5, mgR8, mgR9, mgR10, mgR11, mgR12, Option.bind_some, va_rf_some, va_rf_none, bI_rI, bI_rB, bV_rV, bB_0, bB_1, iI_add, iI_sub, iI_mul, iI_neg, rI_of, rV_of, Int.reduceToNat, Int.neg_neg]
        rw [e_put pw.1 pw.2, bV_rV]
        obtain ⟨a5, e5, s5, b5⟩ := bad3 d (j + 1) f (aU a 0 (plI q (2 + (j : Int))).toNat 0) (hC (ar 8) n 0 9 u) hj1 (by rw [aU_s]; exact ku.hb.set (by decide))
        refine ⟨_, a5, e5, (Sc.trans (Sc.pw Sc.refl) (Sc.refl.aU (by decide))).trans s5.pk, ?_⟩
        have := Res.er ku.tk (c := hC (ar 8) n 0 9 u)
        rw [h8] at this
        exact ⟨this.1, this.2.1, this.2.2.1, b5⟩
  obtain ⟨f6, a6, e6, s6, r6⟩ := sup 5 0 f2 a1 (tkT (ar 8) n P) (by decide) a18 k2
  rw [a10] at r6
  exact ⟨f6, a6, e6, ((s1.pi.trans sa).trans s2.pi).trans s6, r6⟩
end PLT
