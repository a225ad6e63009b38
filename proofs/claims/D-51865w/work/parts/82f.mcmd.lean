/-! ===== the model reads: commands ===== -/
/-- what a row must be for the model's own steps -/
abbrev Rw (s : tRow) : Prop := (Dm s) ∧ (RB s) ∧ (s 2 ≤ 1) ∧ (∀ sh r x y : Int, 0 ≤ sh → sh ≤ 4 → 0 ≤ r → r ≤ 3 → mayP s sh r x y = true → s 4 ≤ 31) ∧ (∀ sh r x y : Int, 0 ≤ sh → sh ≤ 4 → 0 ≤ r → r ≤ 3 → (0 ≤ x ∧ x < s 0) → (0 ≤ y ∧ y < s 1) → mayP s sh r x y = true → RB (plc s sh r x y)) ∧ (∀ x y d : Int, (d = 0 ∨ d = 1) → isEd s x y d = true → mayF s x y d = true → RB (fas s x y d)) ∧ (mayS s = true → RB (pas s))
theorem Rw.dm {s : tRow} (zz : Rw s) : Dm s := zz.1
theorem Rw.rb {s : tRow} (zz : Rw s) : RB s := zz.2.1
theorem Rw.t {s : tRow} (zz : Rw s) : s 2 ≤ 1 := zz.2.2.1
theorem Rw.p31 {s : tRow} (zz : Rw s) : ∀ sh r x y : Int, 0 ≤ sh → sh ≤ 4 → 0 ≤ r → r ≤ 3 → mayP s sh r x y = true → s 4 ≤ 31 := zz.2.2.2.1
theorem Rw.kP {s : tRow} (zz : Rw s) : ∀ sh r x y : Int, 0 ≤ sh → sh ≤ 4 → 0 ≤ r → r ≤ 3 → (0 ≤ x ∧ x < s 0) → (0 ≤ y ∧ y < s 1) → mayP s sh r x y = true → RB (plc s sh r x y) := zz.2.2.2.2.1
theorem Rw.kF {s : tRow} (zz : Rw s) : ∀ x y d : Int, (d = 0 ∨ d = 1) → isEd s x y d = true → mayF s x y d = true → RB (fas s x y d) := zz.2.2.2.2.2.1
theorem Rw.kS {s : tRow} (zz : Rw s) : mayS s = true → RB (pas s) := zz.2.2.2.2.2.2
/-- a command's answer, ahead of its semicolon -/
def RsE (r : PR) (fi : Nat → Int) (ar : Nat → Nat → Int) (n : Nat) : Prop := (∃ e, r = .inl e ∧ fi 22 = 1 ∧ fi 15 = e.1 ∧ fi 16 = (e.2 : Int) ∧ RB (ar 0)) ∨ (∃ q, Pk fi ar n q ∧ r = endS (ar 8) n (ar 0) q)
theorem RsE.er {fi : Nat → Int} {ar : Nat → Nat → Int} {n p : Nat} (k : Tk fi ar n p) {c : Int} : RsE (.inl (c, tkF (ar 8) n p)) (Wr fi c) ar n := Or.inl ⟨_, rfl, Wr_22, Wr_15, Wr_16.trans k.mt.2.1, k.hb⟩
theorem shpS_c {inp : Nat → Int} {n p : Nat} : -1 ≤ shpS inp n p ∧ shpS inp n p ≤ 4 := by
  unfold shpS
  repeat' split
  all_goals decide
section CO
variable {G : tG} {m : Nat} {fi : Nat → Int} {ar : Nat → Nat → Int} {g : tAH} {z : Nat × Nat} {D : Nat → Prop}
theorem e_fin {n : Nat} {r : PR} (h : RsE r fi ar n) : ∃ f1 f2, t_Ev (t_pg G) t_hd Y_X5_go 0 ([some (.ref m)], [], (hM m fi ar g, z)) = rV (hM m f1 ar g, z) ∧ t_Ev (t_pg G) t_hd Y_X5_semicolon 0 ([some (.ref m)], [], (hM m f1 ar g, z)) = rV (hM m f2 ar g, z) ∧ Sc PI PJ fi ar f2 ar ∧ Res r f2 ar n := by
  rcases h with ⟨e, rfl, h1, h2, h3, h4⟩ | ⟨q, k, rfl⟩
  · exact ⟨fi, fi, e_go_w h1, e_semicolon_w h1, Sc.refl, h1, h2, h3, h4⟩
  · exact e_end k
theorem e_shapeHere (W : Wds G m D g) {n p : Nat} (k : Tk fi ar n p) (h22 : fi 22 = 0) : t_Ev (t_pg G) t_hd Y_X5_shapeHere 0 ([some (.ref m), none], [], (hM m fi ar g, z)) = rI (max 0 (shpS (ar 8) n p)) (hM m (if shpS (ar 8) n p = -1 then Wr fi 1 else fi) ar g, z) := by
  have t : ∀ v : Int, 0 ≤ v → v ≤ 4 → t_Ev (t_pg G) t_hd Y_X5_shapeHere 67 ([some (.ref m), none], [.int (iI v)], (hM m fi ar g, z)) = rI (max 0 v) (hM m (if v = -1 then Wr fi 1 else fi) ar g, z) := fun v h0 h4 => by
    rw [b_X5_shapeHere_67]
    simp (disch := omega) only [iI_inj]
    rw [if_neg (by omega), if_neg (by omega)]
    simp only [mK, mgI6, mgI7, mgI13, mgI14, mgI15, mgI16, mgI17, mgI18, mgI19, mgI20, mgI21, mgI22, mgI23, mgI24, mgI25, mgI26, mgI27, mgR0, mgR1, mgR2, mgR3, mgR4, mgR5, mgR8, mgR9, mgR10, mgR11, mgR12, Option.bind_some, e_wrong_f, bV_rV]
    rw [e_max (by decide) (by decide) (by omega) (by omega), bI_rI]
    rfl
  rw [b_X5_shapeHere_0]
  simp only [mK, mgI6, mgI7, mgI13, mgI14, mgI15, mgI16, mgI17, mgI18, mgI19, mgI20, mgI21, mgI22, mgI23, mgI24, mgI25, mgI26, mgI27, mgR0, mgR1, mgR2, mgR3, mgR4, mgR5, mgR8, mgR9, mgR10, mgR11, mgR12, Option.bind_some, e_isW W.ot W.bar (by decide) k, bI_rB, bB_0]
  unfold shpS
  cases wrd (ar 8) n p wBar with
  | true => rw [if_neg (by decide)]; exact t 0 (by decide) (by decide)
  | false =>
  rw [if_pos rfl]
  simp only [mK, mgI6, mgI7, mgI13, mgI14, mgI15, mgI16, mgI17, mgI18, mgI19, mgI20, mgI21, mgI22, mgI23, mgI24, mgI25, mgI26, mgI27, mgR0, mgR1, mgR2, mgR3, mgR4, mgR5, mgR8, mgR9, mgR10, mgR11, mgR12, Option.bind_some, e_isW W.ot W.elbow (by decide) k, bI_rB, bB_0]
  cases wrd (ar 8) n p wElbow with
  | true => rw [if_neg (by decide)]; exact t 1 (by decide) (by decide)
  | false =>
  rw [if_pos rfl]
  simp only [mK, mgI6, mgI7, mgI13, mgI14, mgI15, mgI16, mgI17, mgI18, mgI19, mgI20, mgI21, mgI22, mgI23, mgI24, mgI25, mgI26, mgI27, mgR0, mgR1, mgR2, mgR3, mgR4, mgR5, mgR8, mgR9, mgR10, mgR11, mgR12, Option.bind_some, e_isW W.ot W.rod (by decide) k, bI_rB, bB_0]
  cases wrd (ar 8) n p wRod with
  | true => rw [if_neg (by decide)]; exact t 2 (by decide) (by decide)
  | false =>
  rw [if_pos rfl]
  simp only [mK, mgI6, mgI7, mgI13, mgI14, mgI15, mgI16, mgI17, mgI18, mgI19, mgI20, mgI21, mgI22, mgI23, mgI24, mgI25, mgI26, mgI27, mgR0, mgR1, mgR2, mgR3, mgR4, mgR5, mgR8, mgR9, mgR10, mgR11, mgR12, Option.bind_some, e_isW W.ot W.square (by decide) k, bI_rB, bB_0]
  cases wrd (ar 8) n p wSquare with
  | true => rw [if_neg (by decide)]; exact t 3 (by decide) (by decide)
  | false =>
  rw [if_pos rfl]
  simp only [mK, mgI6, mgI7, mgI13, mgI14, mgI15, mgI16, mgI17, mgI18, mgI19, mgI20, mgI21, mgI22, mgI23, mgI24, mgI25, mgI26, mgI27, mgR0, mgR1, mgR2, mgR3, mgR4, mgR5, mgR8, mgR9, mgR10, mgR11, mgR12, Option.bind_some, e_isW W.ot W.corner (by decide) k, bI_rB, bB_0]
  cases wrd (ar 8) n p wCorner with
  | true => rw [if_neg (by decide)]; exact t 4 (by decide) (by decide)
  | false =>
    rw [if_pos rfl, b_X5_shapeHere_67, if_pos rfl]
    simp only [mK, mgI6, mgI7, mgI13, mgI14, mgI15, mgI16, mgI17, mgI18, mgI19, mgI20, mgI21, mgI22, mgI23, mgI24, mgI25, mgI26, mgI27, mgR0, mgR1, mgR2, mgR3, mgR4, mgR5, mgR8, mgR9, mgR10, mgR11, mgR12, Option.bind_some, e_wrong_t h22, bV_rV]
    rw [e_max (by decide) (by decide) (by decide) (by decide), bI_rI]
    rfl
theorem e_placeTold (W : Wds G m D g) (hw : Rw (ar 0)) {n p : Nat} (k : Pk fi ar n p) : ∃ fi' ar', t_Ev (t_pg G) t_hd Y_X5_placeTold 0 ([some (.ref m), none, none, none, none], [], (hM m fi ar g, z)) = rV (hM m fi' ar' g, z) ∧ Sc PI PJ fi ar fi' ar' ∧ RsE (placeS (ar 8) n (ar 0) p) fi' ar' n := by
  have d0 := hw.dm.1
  have d1 := hw.dm.2
  have p0 : ar 0 0 - 1 ≤ 7 := by omega
  have p1 : ar 0 1 - 1 ≤ 7 := by omega
  have psh : ∀ v : Int, -1 ≤ v → ¬ v = -1 → 0 ≤ v := fun v h1 h2 => by omega
  obtain ⟨f1, e1, s1, k1⟩ := e_go (G := G) (m := m) (g := g) (z := z) k
  have bad : ∀ (f : Nat → Int) (c : Int) (v1 v2 v3 v4 : Int), t_Ev (t_pg G) t_hd Y_X5_placeTold 84 ([some (.ref m), some (.int (iI v1)), some (.int (iI v2)), some (.int (iI v3)), some (.int (iI v4))], [(.ref m)], (hM m (Wr f c) ar g, z)) = rV (hM m (Wr f c) ar g, z) := fun f c v1 v2 v3 v4 => by
    rw [b_X5_placeTold_84, b_X5_placeTold_85]
    simp only [mK, mgI6, mgI7, mgI13, mgI14, mgI15, mgI16, mgI17, mgI18, mgI19, mgI20, mgI21, mgI22, mgI23, mgI24, mgI25, mgI26, mgI27, mgR0, mgR1, mgR2, mgR3, mgR4, mgR5, mgR8, mgR9, mgR10, mgR11, mgR12, Option.bind_some, va_rf_some, va_rf_none, bI_rI, bI_rB, bV_rV, bB_0, bB_1, iI_add, iI_sub, iI_mul, iI_neg, rI_of, rV_of, Int.reduceToNat, Int.neg_neg, mld0, e_here_w Wr_22, e_number_w Wr_22, e_wrong_w Wr_22, e_go_w Wr_22, e_semicolon_w Wr_22, Wr_22, i10, if_false]
  rw [b_X5_placeTold_0]
  simp only [mK, mgI6, mgI7, mgI13, mgI14, mgI15, mgI16, mgI17, mgI18, mgI19, mgI20, mgI21, mgI22, mgI23, mgI24, mgI25, mgI26, mgI27, mgR0, mgR1, mgR2, mgR3, mgR4, mgR5, mgR8, mgR9, mgR10, mgR11, mgR12, Option.bind_some]
  rw [e1, bV_rV]
  simp only [mK, mgI6, mgI7, mgI13, mgI14, mgI15, mgI16, mgI17, mgI18, mgI19, mgI20, mgI21, mgI22, mgI23, mgI24, mgI25, mgI26, mgI27, mgR0, mgR1, mgR2, mgR3, mgR4, mgR5, mgR8, mgR9, mgR10, mgR11, mgR12, Option.bind_some, va_rf_some, va_rf_none, bI_rI, bI_rB, bV_rV, bB_0, bB_1, iI_add, iI_sub, iI_mul, iI_neg, rI_of, rV_of, Int.reduceToNat, Int.neg_neg, k1.h22, if_true]
  rw [e_shapeHere W k1.tk k1.h22, bI_rI]
  unfold placeS
  try dsimp only
  have hc := shpS_c (inp := ar 8) (n := n) (p := tkT (ar 8) n p)
  generalize shpS (ar 8) n (tkT (ar 8) n p) = sh at hc ⊢
  by_cases cs : sh = -1
  · rw [if_pos cs, ckS_t (decide_eq_true cs), b_X5_placeTold_19]
    simp (disch := omega) only [mK, mgI6, mgI7, mgI13, mgI14, mgI15, mgI16, mgI17, mgI18, mgI19, mgI20, mgI21, mgI22, mgI23, mgI24, mgI25, mgI26, mgI27, mgR0, mgR1, mgR2, mgR3, mgR4, mgR5, mgR8, mgR9, mgR10, mgR11, mgR12, Option.bind_some, va_rf_some, va_rf_none, bI_rI, bI_rB, bV_rV, bB_0, bB_1, iI_add, iI_sub, iI_mul, iI_neg, rI_of, rV_of, Int.reduceToNat, Int.neg_neg, mld0, e_here_w Wr_22, e_number_w Wr_22, e_wrong_w Wr_22, e_go_w Wr_22, e_semicolon_w Wr_22, Wr_22, i10, if_false]
    rw [bad]
    exact ⟨_, _, rfl, s1.pi.pw, RsE.er k1.tk⟩
  rw [if_neg cs, ckS_f (decide_eq_false cs), show max 0 sh = sh by omega, b_X5_placeTold_19]
  obtain ⟨f2, e2, s2, k2⟩ := e_go (G := G) (m := m) (g := g) (z := z) k1
  simp only [mK, mgI6, mgI7, mgI13, mgI14, mgI15, mgI16, mgI17, mgI18, mgI19, mgI20, mgI21, mgI22, mgI23, mgI24, mgI25, mgI26, mgI27, mgR0, mgR1, mgR2, mgR3, mgR4, mgR5, mgR8, mgR9, mgR10, mgR11, mgR12, Option.bind_some]
  rw [e2, bV_rV]
  simp only [mK, mgI6, mgI7, mgI13, mgI14, mgI15, mgI16, mgI17, mgI18, mgI19, mgI20, mgI21, mgI22, mgI23, mgI24, mgI25, mgI26, mgI27, mgR0, mgR1, mgR2, mgR3, mgR4, mgR5, mgR8, mgR9, mgR10, mgR11, mgR12, Option.bind_some, va_rf_some, va_rf_none, bI_rI, bI_rB, bV_rV, bB_0, bB_1, iI_add, iI_sub, iI_mul, iI_neg, rI_of, rV_of, Int.reduceToNat, Int.neg_neg]
  have s2' := s1.pi.trans s2.pi
  obtain ⟨y3, n3⟩ := e_number (G := G) (m := m) (g := g) (z := z) k2 (lo := 0) (hi := 3) (by omega) (by omega)
  by_cases c3 : hC (ar 8) n 0 3 (tkT (ar 8) n (tkT (ar 8) n p)) = 0
  case neg =>
    rw [nuS_er c3, n3 c3, bI_rI]
    simp (disch := omega) only [mK, mgI6, mgI7, mgI13, mgI14, mgI15, mgI16, mgI17, mgI18, mgI19, mgI20, mgI21, mgI22, mgI23, mgI24, mgI25, mgI26, mgI27, mgR0, mgR1, mgR2, mgR3, mgR4, mgR5, mgR8, mgR9, mgR10, mgR11, mgR12, Option.bind_some, va_rf_some, va_rf_none, bI_rI, bI_rB, bV_rV, bB_0, bB_1, iI_add, iI_sub, iI_mul, iI_neg, rI_of, rV_of, Int.reduceToNat, Int.neg_neg, mld0, e_here_w Wr_22, e_number_w Wr_22, e_wrong_w Wr_22, e_go_w Wr_22, e_semicolon_w Wr_22, Wr_22, i10, if_false]
    rw [bad]
    exact ⟨_, _, rfl, s2'.pw, RsE.er k2.tk⟩
  obtain ⟨f3, e3, s3, k3⟩ := y3 c3
  have h3 := hC_ok c3
  have s3' := s2'.trans s3.pi
  rw [nuS_ok c3, e3, bI_rI]
  simp (disch := omega) only [mK, mgI6, mgI7, mgI13, mgI14, mgI15, mgI16, mgI17, mgI18, mgI19, mgI20, mgI21, mgI22, mgI23, mgI24, mgI25, mgI26, mgI27, mgR0, mgR1, mgR2, mgR3, mgR4, mgR5, mgR8, mgR9, mgR10, mgR11, mgR12, Option.bind_some, va_rf_some, va_rf_none, bI_rI, bI_rB, bV_rV, bB_0, bB_1, iI_add, iI_sub, iI_mul, iI_neg, rI_of, rV_of, Int.reduceToNat, Int.neg_neg, mld0]
  obtain ⟨y4, n4⟩ := e_number (G := G) (m := m) (g := g) (z := z) k3 (lo := 0) (hi := ar 0 0 - 1) (by omega) (by omega)
  by_cases c4 : hC (ar 8) n 0 (ar 0 0 - 1) (tkT (ar 8) n (tkT (ar 8) n (tkT (ar 8) n p))) = 0
  case neg =>
    rw [nuS_er c4, n4 c4, bI_rI]
    simp (disch := omega) only [mK, mgI6, mgI7, mgI13, mgI14, mgI15, mgI16, mgI17, mgI18, mgI19, mgI20, mgI21, mgI22, mgI23, mgI24, mgI25, mgI26, mgI27, mgR0, mgR1, mgR2, mgR3, mgR4, mgR5, mgR8, mgR9, mgR10, mgR11, mgR12, Option.bind_some, va_rf_some, va_rf_none, bI_rI, bI_rB, bV_rV, bB_0, bB_1, iI_add, iI_sub, iI_mul, iI_neg, rI_of, rV_of, Int.reduceToNat, Int.neg_neg, mld0, e_here_w Wr_22, e_number_w Wr_22, e_wrong_w Wr_22, e_go_w Wr_22, e_semicolon_w Wr_22, Wr_22, i10, if_false]
    rw [bad]
    exact ⟨_, _, rfl, s3'.pw, RsE.er k3.tk⟩
  obtain ⟨f4, e4, s4, k4⟩ := y4 c4
  have h4 := hC_ok c4
  have s4' := s3'.trans s4.pi
  rw [nuS_ok c4, e4, bI_rI]
  simp (disch := omega) only [mK, mgI6, mgI7, mgI13, mgI14, mgI15, mgI16, mgI17, mgI18, mgI19, mgI20, mgI21, mgI22, mgI23, mgI24, mgI25, mgI26, mgI27, mgR0, mgR1, mgR2, mgR3, mgR4, mgR5, mgR8, mgR9, mgR10, mgR11, mgR12, Option.bind_some, va_rf_some, va_rf_none, bI_rI, bI_rB, bV_rV, bB_0, bB_1, iI_add, iI_sub, iI_mul, iI_neg, rI_of, rV_of, Int.reduceToNat, Int.neg_neg, mld0]
  rw [e_here k4 (by omega) (by omega)]
  by_cases c5 : hC (ar 8) n 0 (ar 0 1 - 1) (tkT (ar 8) n (tkT (ar 8) n (tkT (ar 8) n (tkT (ar 8) n p)))) = 0
  case neg =>
    rw [nuS_er c5, if_neg c5, bI_rI]
    simp (disch := omega) only [mK, mgI6, mgI7, mgI13, mgI14, mgI15, mgI16, mgI17, mgI18, mgI19, mgI20, mgI21, mgI22, mgI23, mgI24, mgI25, mgI26, mgI27, mgR0, mgR1, mgR2, mgR3, mgR4, mgR5, mgR8, mgR9, mgR10, mgR11, mgR12, Option.bind_some, va_rf_some, va_rf_none, bI_rI, bI_rB, bV_rV, bB_0, bB_1, iI_add, iI_sub, iI_mul, iI_neg, rI_of, rV_of, Int.reduceToNat, Int.neg_neg, mld0, e_here_w Wr_22, e_number_w Wr_22, e_wrong_w Wr_22, e_go_w Wr_22, e_semicolon_w Wr_22, Wr_22, i10, if_false]
    rw [bad]
    exact ⟨_, _, rfl, s4'.pw, RsE.er k4.tk⟩
  have h5 := hC_ok c5
  rw [nuS_ok c5, if_pos c5, bI_rI]
  simp only [mK, mgI6, mgI7, mgI13, mgI14, mgI15, mgI16, mgI17, mgI18, mgI19, mgI20, mgI21, mgI22, mgI23, mgI24, mgI25, mgI26, mgI27, mgR0, mgR1, mgR2, mgR3, mgR4, mgR5, mgR8, mgR9, mgR10, mgR11, mgR12, Option.bind_some, va_rf_some, va_rf_none, bI_rI, bI_rB, bV_rV, bB_0, bB_1, iI_add, iI_sub, iI_mul, iI_neg, rI_of, rV_of, Int.reduceToNat, Int.neg_neg, k4.h22, if_true]
  generalize tkV (ar 8) n (tkT (ar 8) n (tkT (ar 8) n p)) = r at h3 ⊢
  generalize tkV (ar 8) n (tkT (ar 8) n (tkT (ar 8) n (tkT (ar 8) n p))) = x at h4 ⊢
  generalize tkV (ar 8) n (tkT (ar 8) n (tkT (ar 8) n (tkT (ar 8) n (tkT (ar 8) n p)))) = y at h5 ⊢
  have q1 := psh sh hc.1 cs
  have q4 : 0 ≤ x ∧ x ≤ 7 := ⟨h4.2.1, Int.le_trans h4.2.2 p0⟩
  have q5 : 0 ≤ y ∧ y ≤ 7 := ⟨h5.2.1, Int.le_trans h5.2.2 p1⟩
  obtain ⟨f5, a5, e5, s5⟩ := e_mayPlace (G := G) (m := m) (fi := f4) (g := g) (z := z) hw.dm hw.rb hw.t (sh := sh) (r := r) (x := x) (y := y) q1 hc.2 h3.2.1 h3.2.2 q4 q5
  have k5 := k4.cg s5 (by decide) (by decide) (by rw [s5.2 0 (by decide)]; exact k4.hb)
  have s5' := s4'.trans s5.pj
  have e0 : a5 0 = ar 0 := s5.2 0 (by decide)
  have e8 : a5 8 = ar 8 := s5.2 8 (by decide)
  rw [e5, bI_rB]
  simp only [bB_0]
  cases cm : mayP (ar 0) sh r x y with
  | false =>
    rw [if_pos rfl, ckS_nt, b_X5_placeTold_85]
    simp only [mK, mgI6, mgI7, mgI13, mgI14, mgI15, mgI16, mgI17, mgI18, mgI19, mgI20, mgI21, mgI22, mgI23, mgI24, mgI25, mgI26, mgI27, mgR0, mgR1, mgR2, mgR3, mgR4, mgR5, mgR8, mgR9, mgR10, mgR11, mgR12, Option.bind_some, va_rf_some, va_rf_none, bI_rI, bI_rB, bV_rV, bB_0, bB_1, iI_add, iI_sub, iI_mul, iI_neg, rI_of, rV_of, Int.reduceToNat, Int.neg_neg, e_wrong_t k5.h22, Wr_22, i10, if_false]
    refine ⟨_, _, rfl, s5'.pw, ?_⟩
    have := RsE.er k5.tk (c := 6)
    rw [e8] at this
    exact this
  | true =>
    have hp := hw.p31 sh r x y q1 hc.2 h3.2.1 h3.2.2 cm
    have hmf : mf (ar 0) sh r x y = 0 := by
      unfold mayP at cm
      rw [Bool.and_eq_true, Bool.and_eq_true] at cm
      exact of_decide_eq_true cm.2.2
    have hi := mf_in hw.dm hmf
    rw [if_neg (by decide), ckS_nf, b_X5_placeTold_84, b_X5_placeTold_85]
    simp only [mK, mgI6, mgI7, mgI13, mgI14, mgI15, mgI16, mgI17, mgI18, mgI19, mgI20, mgI21, mgI22, mgI23, mgI24, mgI25, mgI26, mgI27, mgR0, mgR1, mgR2, mgR3, mgR4, mgR5, mgR8, mgR9, mgR10, mgR11, mgR12, Option.bind_some, va_rf_some, va_rf_none, bI_rI, bI_rB, bV_rV, bB_0, bB_1, iI_add, iI_sub, iI_mul, iI_neg, rI_of, rV_of, Int.reduceToNat, Int.neg_neg, e_wrong_f, k5.h22, if_true]
    obtain ⟨f6, a6, e6, s6, r6⟩ := e_places (G := G) (m := m) (fi := f5) (ar := a5) (g := g) (z := z) (by rw [e0]; exact hw.dm) (by rw [e0]; exact hw.rb) (by rw [e0]; exact hw.t) (by rw [e0]; exact hp) (sh := sh) (r := r) (x := x) (y := y) q1 hc.2 h3.2.1 h3.2.2 q4 q5 (fun j hj => (hi j hj).2)
    rw [e0] at e6 r6
    rw [e6, bI_rI]
    simp only [mK, mgI6, mgI7, mgI13, mgI14, mgI15, mgI16, mgI17, mgI18, mgI19, mgI20, mgI21, mgI22, mgI23, mgI24, mgI25, mgI26, mgI27, mgR0, mgR1, mgR2, mgR3, mgR4, mgR5, mgR8, mgR9, mgR10, mgR11, mgR12, Option.bind_some, va_rf_some, va_rf_none, bI_rI, bI_rB, bV_rV, bB_0, bB_1, iI_add, iI_sub, iI_mul, iI_neg, rI_of, rV_of, Int.reduceToNat, Int.neg_neg, mpI23]
    have k6a := k5.cg s6 (by decide) (by decide) (by rw [r6]; exact hw.kP sh r x y q1 hc.2 h3.2.1 h3.2.2 ⟨h4.2.1, Int.lt_of_le_sub_one h4.2.2⟩ ⟨h5.2.1, Int.lt_of_le_sub_one h5.2.2⟩ cm)
    have k6 := k6a.cg (I := [23]) (A := []) (fi' := fU f6 23 (pts (ar 0) sh r y)) (ar' := a6) (Sc.refl.fU (by decide)) (by decide) (by decide) k6a.hb
    have e8' : a6 8 = ar 8 := (s6.2 8 (by decide)).trans e8
    refine ⟨_, _, rfl, (s5'.trans (s6.mono (by decide) (by decide))).trans (Sc.refl.fU (by decide)), Or.inr ⟨_, k6, ?_⟩⟩
    rw [e8', r6]
theorem e_strapTold (W : Wds G m D g) (hw : Rw (ar 0)) {n p : Nat} (k : Pk fi ar n p) : ∃ fi' ar', t_Ev (t_pg G) t_hd Y_X5_strapTold 0 ([some (.ref m), none, none, none], [], (hM m fi ar g, z)) = rV (hM m fi' ar' g, z) ∧ Sc PI PJ fi ar fi' ar' ∧ RsE (strapS (ar 8) n (ar 0) p) fi' ar' n := by
  have d0 := hw.dm.1
  have d1 := hw.dm.2
  obtain ⟨f1, e1, s1, k1⟩ := e_go (G := G) (m := m) (g := g) (z := z) k
  have bad : ∀ (f : Nat → Int) (c : Int) (v1 v2 v3 : Int), t_Ev (t_pg G) t_hd Y_X5_strapTold 70 ([some (.ref m), some (.int (iI v1)), some (.int (iI v2)), some (.int (iI v3))], [(.ref m)], (hM m (Wr f c) ar g, z)) = rV (hM m (Wr f c) ar g, z) := fun f c v1 v2 v3 => by
    rw [b_X5_strapTold_70, b_X5_strapTold_71]
    simp only [mK, mgI6, mgI7, mgI13, mgI14, mgI15, mgI16, mgI17, mgI18, mgI19, mgI20, mgI21, mgI22, mgI23, mgI24, mgI25, mgI26, mgI27, mgR0, mgR1, mgR2, mgR3, mgR4, mgR5, mgR8, mgR9, mgR10, mgR11, mgR12, Option.bind_some, va_rf_some, va_rf_none, bI_rI, bI_rB, bV_rV, bB_0, bB_1, iI_add, iI_sub, iI_mul, iI_neg, rI_of, rV_of, Int.reduceToNat, Int.neg_neg, mld0, e_here_w Wr_22, e_number_w Wr_22, e_wrong_w Wr_22, e_go_w Wr_22, e_semicolon_w Wr_22, Wr_22, i10, if_false]
    rw [b_X5_strapTold_97, b_X5_strapTold_98]
    simp only [mK, mgI6, mgI7, mgI13, mgI14, mgI15, mgI16, mgI17, mgI18, mgI19, mgI20, mgI21, mgI22, mgI23, mgI24, mgI25, mgI26, mgI27, mgR0, mgR1, mgR2, mgR3, mgR4, mgR5, mgR8, mgR9, mgR10, mgR11, mgR12, Option.bind_some, va_rf_some, va_rf_none, bI_rI, bI_rB, bV_rV, bB_0, bB_1, iI_add, iI_sub, iI_mul, iI_neg, rI_of, rV_of, Int.reduceToNat, Int.neg_neg, mld0, e_here_w Wr_22, e_number_w Wr_22, e_wrong_w Wr_22, e_go_w Wr_22, e_semicolon_w Wr_22, Wr_22, i10, if_false]
  have bad0 : ∀ (f : Nat → Int) (c : Int) (v1 v2 v3 : Int), t_Ev (t_pg G) t_hd Y_X5_strapTold 47 ([some (.ref m), some (.int (iI v1)), some (.int (iI v2)), none], [.int (iI v3)], (hM m (Wr f c) ar g, z)) = rV (hM m (Wr f c) ar g, z) := fun f c v1 v2 v3 => by
    rw [b_X5_strapTold_47]
    simp only [mK, mgI6, mgI7, mgI13, mgI14, mgI15, mgI16, mgI17, mgI18, mgI19, mgI20, mgI21, mgI22, mgI23, mgI24, mgI25, mgI26, mgI27, mgR0, mgR1, mgR2, mgR3, mgR4, mgR5, mgR8, mgR9, mgR10, mgR11, mgR12, Option.bind_some, va_rf_some, va_rf_none, bI_rI, bI_rB, bV_rV, bB_0, bB_1, iI_add, iI_sub, iI_mul, iI_neg, rI_of, rV_of, Int.reduceToNat, Int.neg_neg, mld0, e_here_w Wr_22, e_number_w Wr_22, e_wrong_w Wr_22, e_go_w Wr_22, e_semicolon_w Wr_22, Wr_22, i10, if_false]
    exact bad f c v1 v2 v3
  rw [b_X5_strapTold_0]
  simp only [mK, mgI6, mgI7, mgI13, mgI14, mgI15, mgI16, mgI17, mgI18, mgI19, mgI20, mgI21, mgI22, mgI23, mgI24, mgI25, mgI26, mgI27, mgR0, mgR1, mgR2, mgR3, mgR4, mgR5, mgR8, mgR9, mgR10, mgR11, mgR12, Option.bind_some]
  rw [e1, bV_rV]
  simp (disch := omega) only [mK, mgI6, mgI7, mgI13, mgI14, mgI15, mgI16, mgI17, mgI18, mgI19, mgI20, mgI21, mgI22, mgI23, mgI24, mgI25, mgI26, mgI27, mgR0, mgR1, mgR2, mgR3, mgR4, mgR5, mgR8, mgR9, mgR10, mgR11, mgR12, Option.bind_some, va_rf_some, va_rf_none, bI_rI, bI_rB, bV_rV, bB_0, bB_1, iI_add, iI_sub, iI_mul, iI_neg, rI_of, rV_of, Int.reduceToNat, Int.neg_neg, mld0]
  unfold strapS
  obtain ⟨y3, n3⟩ := e_number (G := G) (m := m) (g := g) (z := z) k1 (lo := 0) (hi := ar 0 0 - 1) (by omega) (by omega)
  by_cases c3 : hC (ar 8) n 0 (ar 0 0 - 1) (tkT (ar 8) n p) = 0
  case neg =>
    rw [nuS_er c3, n3 c3, bI_rI]
    simp (disch := omega) only [mK, mgI6, mgI7, mgI13, mgI14, mgI15, mgI16, mgI17, mgI18, mgI19, mgI20, mgI21, mgI22, mgI23, mgI24, mgI25, mgI26, mgI27, mgR0, mgR1, mgR2, mgR3, mgR4, mgR5, mgR8, mgR9, mgR10, mgR11, mgR12, Option.bind_some, va_rf_some, va_rf_none, bI_rI, bI_rB, bV_rV, bB_0, bB_1, iI_add, iI_sub, iI_mul, iI_neg, rI_of, rV_of, Int.reduceToNat, Int.neg_neg, mld0, e_here_w Wr_22, e_number_w Wr_22, e_wrong_w Wr_22, e_go_w Wr_22, e_semicolon_w Wr_22, Wr_22, i10, if_false]
    rw [bad0]
    exact ⟨_, _, rfl, s1.pi.pw, RsE.er k1.tk⟩
  obtain ⟨f3, e3, s3, k3⟩ := y3 c3
  have h3 := hC_ok c3
  have s3' := s1.pi.trans s3.pi
  rw [nuS_ok c3, e3, bI_rI]
  simp (disch := omega) only [mK, mgI6, mgI7, mgI13, mgI14, mgI15, mgI16, mgI17, mgI18, mgI19, mgI20, mgI21, mgI22, mgI23, mgI24, mgI25, mgI26, mgI27, mgR0, mgR1, mgR2, mgR3, mgR4, mgR5, mgR8, mgR9, mgR10, mgR11, mgR12, Option.bind_some, va_rf_some, va_rf_none, bI_rI, bI_rB, bV_rV, bB_0, bB_1, iI_add, iI_sub, iI_mul, iI_neg, rI_of, rV_of, Int.reduceToNat, Int.neg_neg, mld0]
  obtain ⟨y4, n4⟩ := e_number (G := G) (m := m) (g := g) (z := z) k3 (lo := 0) (hi := ar 0 1 - 1) (by omega) (by omega)
  by_cases c4 : hC (ar 8) n 0 (ar 0 1 - 1) (tkT (ar 8) n (tkT (ar 8) n p)) = 0
  case neg =>
    rw [nuS_er c4, n4 c4, bI_rI]
    simp (disch := omega) only [mK, mgI6, mgI7, mgI13, mgI14, mgI15, mgI16, mgI17, mgI18, mgI19, mgI20, mgI21, mgI22, mgI23, mgI24, mgI25, mgI26, mgI27, mgR0, mgR1, mgR2, mgR3, mgR4, mgR5, mgR8, mgR9, mgR10, mgR11, mgR12, Option.bind_some, va_rf_some, va_rf_none, bI_rI, bI_rB, bV_rV, bB_0, bB_1, iI_add, iI_sub, iI_mul, iI_neg, rI_of, rV_of, Int.reduceToNat, Int.neg_neg, mld0, e_here_w Wr_22, e_number_w Wr_22, e_wrong_w Wr_22, e_go_w Wr_22, e_semicolon_w Wr_22, Wr_22, i10, if_false]
    rw [bad0]
    exact ⟨_, _, rfl, s3'.pw, RsE.er k3.tk⟩
  obtain ⟨f4, e4, s4, k4⟩ := y4 c4
  have h4 := hC_ok c4
  have s4' := s3'.trans s4.pi
  rw [nuS_ok c4, e4, bI_rI]
  simp only [mK, mgI6, mgI7, mgI13, mgI14, mgI15, mgI16, mgI17, mgI18, mgI19, mgI20, mgI21, mgI22, mgI23, mgI24, mgI25, mgI26, mgI27, mgR0, mgR1, mgR2, mgR3, mgR4, mgR5, mgR8, mgR9, mgR10, mgR11, mgR12, Option.bind_some, va_rf_some, va_rf_none, bI_rI, bI_rB, bV_rV, bB_0, bB_1, iI_add, iI_sub, iI_mul, iI_neg, rI_of, rV_of, Int.reduceToNat, Int.neg_neg, k4.h22, if_true]
  rw [e_sideHere W k4.tk k4.h22, bI_rI]
  have hsd := sideS_c (inp := ar 8) (n := n) (p := tkT (ar 8) n (tkT (ar 8) n (tkT (ar 8) n p)))
  try dsimp only
  generalize sideS (ar 8) n (tkT (ar 8) n (tkT (ar 8) n (tkT (ar 8) n p))) = d at hsd ⊢
  generalize tkV (ar 8) n (tkT (ar 8) n p) = x at h3 ⊢
  generalize tkV (ar 8) n (tkT (ar 8) n (tkT (ar 8) n p)) = y at h4 ⊢
  by_cases cd : d = -1
  · rw [if_pos cd, ckS_t (decide_eq_true cd), bad0]
    exact ⟨_, _, rfl, s4'.pw, RsE.er k4.tk⟩
  have hd : d = 0 ∨ d = 1 := hsd.resolve_left cd
  rw [if_neg cd, ckS_f (decide_eq_false cd), show max 0 d = d by omega, b_X5_strapTold_47]
  simp only [mK, mgI6, mgI7, mgI13, mgI14, mgI15, mgI16, mgI17, mgI18, mgI19, mgI20, mgI21, mgI22, mgI23, mgI24, mgI25, mgI26, mgI27, mgR0, mgR1, mgR2, mgR3, mgR4, mgR5, mgR8, mgR9, mgR10, mgR11, mgR12, Option.bind_some, va_rf_some, va_rf_none, bI_rI, bI_rB, bV_rV, bB_0, bB_1, iI_add, iI_sub, iI_mul, iI_neg, rI_of, rV_of, Int.reduceToNat, Int.neg_neg, k4.h22, if_true]
  rw [e_isEdge hw.dm (by omega) (by omega) (by omega) (by omega) (by omega) (by omega), bI_rB]
  simp only [bB_0]
  cases ce : isEd (ar 0) x y d with
  | false =>
    rw [if_pos rfl, ckS_nt, b_X5_strapTold_71]
    simp only [mK, mgI6, mgI7, mgI13, mgI14, mgI15, mgI16, mgI17, mgI18, mgI19, mgI20, mgI21, mgI22, mgI23, mgI24, mgI25, mgI26, mgI27, mgR0, mgR1, mgR2, mgR3, mgR4, mgR5, mgR8, mgR9, mgR10, mgR11, mgR12, Option.bind_some, va_rf_some, va_rf_none, bI_rI, bI_rB, bV_rV, bB_0, bB_1, iI_add, iI_sub, iI_mul, iI_neg, rI_of, rV_of, Int.reduceToNat, Int.neg_neg, e_wrong_t k4.h22, Wr_22, i10, if_false]
    rw [b_X5_strapTold_97, b_X5_strapTold_98]
    simp only [mK, mgI6, mgI7, mgI13, mgI14, mgI15, mgI16, mgI17, mgI18, mgI19, mgI20, mgI21, mgI22, mgI23, mgI24, mgI25, mgI26, mgI27, mgR0, mgR1, mgR2, mgR3, mgR4, mgR5, mgR8, mgR9, mgR10, mgR11, mgR12, Option.bind_some, va_rf_some, va_rf_none, bI_rI, bI_rB, bV_rV, bB_0, bB_1, iI_add, iI_sub, iI_mul, iI_neg, rI_of, rV_of, Int.reduceToNat, Int.neg_neg, mld0, e_here_w Wr_22, e_number_w Wr_22, e_wrong_w Wr_22, e_go_w Wr_22, e_semicolon_w Wr_22, Wr_22, i10, if_false]
    exact ⟨_, _, rfl, s4'.pw, RsE.er k4.tk⟩
  | true =>
    obtain ⟨bx, by', bu, bv, be0, be1⟩ := isEd_b hw.dm ce hd
    rw [if_neg (by decide), ckS_nf, b_X5_strapTold_70, b_X5_strapTold_71]
    simp only [mK, mgI6, mgI7, mgI13, mgI14, mgI15, mgI16, mgI17, mgI18, mgI19, mgI20, mgI21, mgI22, mgI23, mgI24, mgI25, mgI26, mgI27, mgR0, mgR1, mgR2, mgR3, mgR4, mgR5, mgR8, mgR9, mgR10, mgR11, mgR12, Option.bind_some, va_rf_some, va_rf_none, bI_rI, bI_rB, bV_rV, bB_0, bB_1, iI_add, iI_sub, iI_mul, iI_neg, rI_of, rV_of, Int.reduceToNat, Int.neg_neg, e_wrong_f, k4.h22, if_true]
    rw [e_mayFasten hw.rb hw.t (by omega) (by omega) (by omega) (by omega) (by omega), bI_rB]
    simp only [bB_0]
    cases cm : mayF (ar 0) x y d with
    | false =>
      rw [if_pos rfl, ckS_nt, b_X5_strapTold_98]
      simp only [mK, mgI6, mgI7, mgI13, mgI14, mgI15, mgI16, mgI17, mgI18, mgI19, mgI20, mgI21, mgI22, mgI23, mgI24, mgI25, mgI26, mgI27, mgR0, mgR1, mgR2, mgR3, mgR4, mgR5, mgR8, mgR9, mgR10, mgR11, mgR12, Option.bind_some, va_rf_some, va_rf_none, bI_rI, bI_rB, bV_rV, bB_0, bB_1, iI_add, iI_sub, iI_mul, iI_neg, rI_of, rV_of, Int.reduceToNat, Int.neg_neg, e_wrong_t k4.h22, Wr_22, i10, if_false]
      exact ⟨_, _, rfl, s4'.pw, RsE.er k4.tk⟩
    | true =>
      rw [if_neg (by decide), ckS_nf, b_X5_strapTold_97, b_X5_strapTold_98]
      simp only [mK, mgI6, mgI7, mgI13, mgI14, mgI15, mgI16, mgI17, mgI18, mgI19, mgI20, mgI21, mgI22, mgI23, mgI24, mgI25, mgI26, mgI27, mgR0, mgR1, mgR2, mgR3, mgR4, mgR5, mgR8, mgR9, mgR10, mgR11, mgR12, Option.bind_some, va_rf_some, va_rf_none, bI_rI, bI_rB, bV_rV, bB_0, bB_1, iI_add, iI_sub, iI_mul, iI_neg, rI_of, rV_of, Int.reduceToNat, Int.neg_neg, e_wrong_f, k4.h22, if_true]
      obtain ⟨a6, e6, s6, r6⟩ := e_fastens (G := G) (m := m) (fi := f4) (ar := ar) (g := g) (z := z) hw.rb hw.t (x := x) (y := y) (d := d) (by omega) (by omega) (by omega)
      rw [e6, bI_rI]
      simp only [mK, mgI6, mgI7, mgI13, mgI14, mgI15, mgI16, mgI17, mgI18, mgI19, mgI20, mgI21, mgI22, mgI23, mgI24, mgI25, mgI26, mgI27, mgR0, mgR1, mgR2, mgR3, mgR4, mgR5, mgR8, mgR9, mgR10, mgR11, mgR12, Option.bind_some, va_rf_some, va_rf_none, bI_rI, bI_rB, bV_rV, bB_0, bB_1, iI_add, iI_sub, iI_mul, iI_neg, rI_of, rV_of, Int.reduceToNat, Int.neg_neg, mpI23]
      have k6a := k4.cg s6 (by decide) (by decide) (by rw [r6]; exact hw.kF x y d hd ce cm)
      have k6 := k6a.cg (I := [23]) (A := []) (fi' := fU f4 23 (ofS (ar 0) (ar 0 2) 1 - 1)) (ar' := a6) (Sc.refl.fU (by decide)) (by decide) (by decide) k6a.hb
      have e8' : a6 8 = ar 8 := s6.2 8 (by decide)
      refine ⟨_, _, rfl, (s4'.trans s6.pk).trans (Sc.refl.fU (by decide)), Or.inr ⟨_, k6, ?_⟩⟩
      rw [e8', r6]
theorem e_command (W : Wds G m D g) (hw : Rw (ar 0)) {n p : Nat} (k : Pk fi ar n p) : ∃ fi' ar', t_Ev (t_pg G) t_hd Y_X5_command 0 ([some (.ref m)], [], (hM m fi ar g, z)) = rV (hM m fi' ar' g, z) ∧ Sc PI PJ fi ar fi' ar' ∧ Res (cmdS (ar 8) n (ar 0) p) fi' ar' n := by
  rw [b_X5_command_0]
  simp only [mK, mgI6, mgI7, mgI13, mgI14, mgI15, mgI16, mgI17, mgI18, mgI19, mgI20, mgI21, mgI22, mgI23, mgI24, mgI25, mgI26, mgI27, mgR0, mgR1, mgR2, mgR3, mgR4, mgR5, mgR8, mgR9, mgR10, mgR11, mgR12, Option.bind_some, e_isW W.ot W.place (by decide) k.tk, bI_rB, bB_0]
  unfold cmdS
  cases wrd (ar 8) n p wPlace with
  | true =>
    rw [if_neg (by decide), if_pos rfl]
    obtain ⟨f1, a1, e1, s1, r1⟩ := e_placeTold (G := G) (m := m) (g := g) (z := z) W hw k
    obtain ⟨f2, f3, e2, e3, s3, r3⟩ := e_fin (G := G) (m := m) (g := g) (z := z) r1
    rw [e1, bV_rV]
    simp only [mK, mgI6, mgI7, mgI13, mgI14, mgI15, mgI16, mgI17, mgI18, mgI19, mgI20, mgI21, mgI22, mgI23, mgI24, mgI25, mgI26, mgI27, mgR0, mgR1, mgR2, mgR3, mgR4, mgR5, mgR8, mgR9, mgR10, mgR11, mgR12, Option.bind_some]
    rw [e2, bV_rV]
    simp only [mK, mgI6, mgI7, mgI13, mgI14, mgI15, mgI16, mgI17, mgI18, mgI19, mgI20, mgI21, mgI22, mgI23, mgI24, mgI25, mgI26, mgI27, mgR0, mgR1, mgR2, mgR3, mgR4, mgR5, mgR8, mgR9, mgR10, mgR11, mgR12, Option.bind_some]
    rw [e3, bV_rV]
    exact ⟨_, _, rfl, s1.trans s3, r3⟩
  | false =>
  rw [if_pos rfl, if_neg (by decide)]
  simp only [mK, mgI6, mgI7, mgI13, mgI14, mgI15, mgI16, mgI17, mgI18, mgI19, mgI20, mgI21, mgI22, mgI23, mgI24, mgI25, mgI26, mgI27, mgR0, mgR1, mgR2, mgR3, mgR4, mgR5, mgR8, mgR9, mgR10, mgR11, mgR12, Option.bind_some, e_isW W.ot W.strap (by decide) k.tk, bI_rB, bB_0]
  cases wrd (ar 8) n p wStrap with
  | true =>
    rw [if_neg (by decide), if_pos rfl]
    obtain ⟨f1, a1, e1, s1, r1⟩ := e_strapTold (G := G) (m := m) (g := g) (z := z) W hw k
    obtain ⟨f2, f3, e2, e3, s3, r3⟩ := e_fin (G := G) (m := m) (g := g) (z := z) r1
    rw [e1, bV_rV]
    simp only [mK, mgI6, mgI7, mgI13, mgI14, mgI15, mgI16, mgI17, mgI18, mgI19, mgI20, mgI21, mgI22, mgI23, mgI24, mgI25, mgI26, mgI27, mgR0, mgR1, mgR2, mgR3, mgR4, mgR5, mgR8, mgR9, mgR10, mgR11, mgR12, Option.bind_some]
    rw [e2, bV_rV]
    simp only [mK, mgI6, mgI7, mgI13, mgI14, mgI15, mgI16, mgI17, mgI18, mgI19, mgI20, mgI21, mgI22, mgI23, mgI24, mgI25, mgI26, mgI27, mgR0, mgR1, mgR2, mgR3, mgR4, mgR5, mgR8, mgR9, mgR10, mgR11, mgR12, Option.bind_some]
    rw [e3, bV_rV]
    exact ⟨_, _, rfl, s1.trans s3, r3⟩
  | false =>
  rw [if_pos rfl, if_neg (by decide)]
  simp only [mK, mgI6, mgI7, mgI13, mgI14, mgI15, mgI16, mgI17, mgI18, mgI19, mgI20, mgI21, mgI22, mgI23, mgI24, mgI25, mgI26, mgI27, mgR0, mgR1, mgR2, mgR3, mgR4, mgR5, mgR8, mgR9, mgR10, mgR11, mgR12, Option.bind_some, e_isW W.ot W.pass (by decide) k.tk, bI_rB, bB_0]
  cases wrd (ar 8) n p wPass with
  | false =>
    rw [if_pos rfl, ckS_nt, b_X5_command_50]
    simp only [mK, mgI6, mgI7, mgI13, mgI14, mgI15, mgI16, mgI17, mgI18, mgI19, mgI20, mgI21, mgI22, mgI23, mgI24, mgI25, mgI26, mgI27, mgR0, mgR1, mgR2, mgR3, mgR4, mgR5, mgR8, mgR9, mgR10, mgR11, mgR12, Option.bind_some, va_rf_some, va_rf_none, bI_rI, bI_rB, bV_rV, bB_0, bB_1, iI_add, iI_sub, iI_mul, iI_neg, rI_of, rV_of, Int.reduceToNat, Int.neg_neg, e_wrong_t k.h22, Wr_22, i10, if_false]
    rw [b_X5_command_73, b_X5_command_74]
    simp only [mK, mgI6, mgI7, mgI13, mgI14, mgI15, mgI16, mgI17, mgI18, mgI19, mgI20, mgI21, mgI22, mgI23, mgI24, mgI25, mgI26, mgI27, mgR0, mgR1, mgR2, mgR3, mgR4, mgR5, mgR8, mgR9, mgR10, mgR11, mgR12, Option.bind_some, va_rf_some, va_rf_none, bI_rI, bI_rB, bV_rV, bB_0, bB_1, iI_add, iI_sub, iI_mul, iI_neg, rI_of, rV_of, Int.reduceToNat, Int.neg_neg, mld0, e_here_w Wr_22, e_number_w Wr_22, e_wrong_w Wr_22, e_go_w Wr_22, e_semicolon_w Wr_22, Wr_22, i10, if_false]
    exact ⟨_, _, rfl, Sc.refl.pw, Res.er k.tk⟩
  | true =>
    rw [if_neg (by decide), ckS_nf, b_X5_command_50]
    simp only [mK, mgI6, mgI7, mgI13, mgI14, mgI15, mgI16, mgI17, mgI18, mgI19, mgI20, mgI21, mgI22, mgI23, mgI24, mgI25, mgI26, mgI27, mgR0, mgR1, mgR2, mgR3, mgR4, mgR5, mgR8, mgR9, mgR10, mgR11, mgR12, Option.bind_some, va_rf_some, va_rf_none, bI_rI, bI_rB, bV_rV, bB_0, bB_1, iI_add, iI_sub, iI_mul, iI_neg, rI_of, rV_of, Int.reduceToNat, Int.neg_neg, e_wrong_f, k.h22, if_true]
    obtain ⟨f1, a1, e1, s1⟩ := e_mayPass (G := G) (m := m) (fi := fi) (g := g) (z := z) hw.dm hw.rb hw.t
    have k1 := k.cg s1 (by decide) (by decide) (by rw [s1.2 0 (by decide)]; exact k.hb)
    have e0 : a1 0 = ar 0 := s1.2 0 (by decide)
    have e8 : a1 8 = ar 8 := s1.2 8 (by decide)
    rw [e1, bI_rB]
    simp only [bB_0]
    cases cm : mayS (ar 0) with
    | false =>
      rw [if_pos rfl, ckS_nt, b_X5_command_74]
      simp only [mK, mgI6, mgI7, mgI13, mgI14, mgI15, mgI16, mgI17, mgI18, mgI19, mgI20, mgI21, mgI22, mgI23, mgI24, mgI25, mgI26, mgI27, mgR0, mgR1, mgR2, mgR3, mgR4, mgR5, mgR8, mgR9, mgR10, mgR11, mgR12, Option.bind_some, va_rf_some, va_rf_none, bI_rI, bI_rB, bV_rV, bB_0, bB_1, iI_add, iI_sub, iI_mul, iI_neg, rI_of, rV_of, Int.reduceToNat, Int.neg_neg, e_wrong_t k1.h22, Wr_22, i10, if_false, e_go_w Wr_22, e_semicolon_w Wr_22]
      refine ⟨_, _, rfl, s1.pj.pw, ?_⟩
      have := Res.er k1.tk (c := 6)
      rw [e8] at this
      exact this
    | true =>
      rw [if_neg (by decide), ckS_nf, b_X5_command_73, b_X5_command_74]
      simp only [mK, mgI6, mgI7, mgI13, mgI14, mgI15, mgI16, mgI17, mgI18, mgI19, mgI20, mgI21, mgI22, mgI23, mgI24, mgI25, mgI26, mgI27, mgR0, mgR1, mgR2, mgR3, mgR4, mgR5, mgR8, mgR9, mgR10, mgR11, mgR12, Option.bind_some, va_rf_some, va_rf_none, bI_rI, bI_rB, bV_rV, bB_0, bB_1, iI_add, iI_sub, iI_mul, iI_neg, rI_of, rV_of, Int.reduceToNat, Int.neg_neg, e_wrong_f, k1.h22, if_true]
      obtain ⟨a2, e2, s2, r2⟩ := e_passes (G := G) (m := m) (fi := f1) (ar := a1) (g := g) (z := z)
      rw [e2, bI_rI]
      simp only [mK, mgI6, mgI7, mgI13, mgI14, mgI15, mgI16, mgI17, mgI18, mgI19, mgI20, mgI21, mgI22, mgI23, mgI24, mgI25, mgI26, mgI27, mgR0, mgR1, mgR2, mgR3, mgR4, mgR5, mgR8, mgR9, mgR10, mgR11, mgR12, Option.bind_some, va_rf_some, va_rf_none, bI_rI, bI_rB, bV_rV, bB_0, bB_1, iI_add, iI_sub, iI_mul, iI_neg, rI_of, rV_of, Int.reduceToNat, Int.neg_neg, mpI23]
      have k2a := k1.cg s2 (by decide) (by decide) (by rw [r2, e0]; exact hw.kS cm)
      have k2 := k2a.cg (I := [23]) (A := []) (fi' := fU f1 23 (a1 0 3 + 1)) (ar' := a2) (Sc.refl.fU (by decide)) (by decide) (by decide) k2a.hb
      have e8' : a2 8 = ar 8 := (s2.2 8 (by decide)).trans e8
      obtain ⟨f3, f4, e3, e4, s4, r4⟩ := e_end (G := G) (m := m) (g := g) (z := z) k2
      rw [e3, bV_rV]
      simp only [mK, mgI6, mgI7, mgI13, mgI14, mgI15, mgI16, mgI17, mgI18, mgI19, mgI20, mgI21, mgI22, mgI23, mgI24, mgI25, mgI26, mgI27, mgR0, mgR1, mgR2, mgR3, mgR4, mgR5, mgR8, mgR9, mgR10, mgR11, mgR12, Option.bind_some, va_rf_some, va_rf_none, bI_rI, bI_rB, bV_rV, bB_0, bB_1, iI_add, iI_sub, iI_mul, iI_neg, rI_of, rV_of, Int.reduceToNat, Int.neg_neg]
      rw [e4, bV_rV]
      rw [e8', r2, e0] at r4
      exact ⟨_, _, rfl, ((s1.pj.trans s2.pk).trans (Sc.refl.fU (by decide))).trans s4, r4⟩
end CO
