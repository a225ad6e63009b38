/-! ===== the model reads: statements ===== -/
theorem Tk.wr {fi : Nat → Int} {ar : Nat → Nat → Int} {n p : Nat} (k : Tk fi ar n p) {c : Int} : Tk (Wr fi c) ar n p := by
  refine ⟨k.h6, k.hI, k.hp, ?_, k.hb⟩
  unfold MT Wr
  simp (disch := decide) only [fU_n]
  exact k.mt
/-- a statement's answer, in the model's fields and row -/
def Res (r : PR) (fi : Nat → Int) (ar : Nat → Nat → Int) (n : Nat) : Prop := match r with
  | .inl e => fi 22 = 1 ∧ fi 15 = e.1 ∧ fi 16 = (e.2 : Int) ∧ RB (ar 0)
  | .inr a => ar 0 = a.1 ∧ Pk fi ar n a.2
abbrev PI : List Nat := [15, 16, 17, 18, 19, 20, 21, 22, 23]
abbrev PJ : List Nat := [0, 10, 11]
theorem Sc.pi {f0 f1 : Nat → Int} {a0 a1 : Nat → Nat → Int} (h : Sc [18, 19, 20, 21] [] f0 a0 f1 a1) : Sc PI PJ f0 a0 f1 a1 := h.mono (by decide) (by decide)
theorem Sc.pj {f0 f1 : Nat → Int} {a0 a1 : Nat → Nat → Int} (h : Sc [17] [10, 11] f0 a0 f1 a1) : Sc PI PJ f0 a0 f1 a1 := h.mono (by decide) (by decide)
theorem Sc.pk {f0 f1 : Nat → Int} {a0 a1 : Nat → Nat → Int} (h : Sc [] [0] f0 a0 f1 a1) : Sc PI PJ f0 a0 f1 a1 := h.mono (by decide) (by decide)
theorem Sc.pw {f0 fi : Nat → Int} {a0 ar : Nat → Nat → Int} {c : Int} (h : Sc PI PJ f0 a0 fi ar) : Sc PI PJ f0 a0 (Wr fi c) ar := Wr_Sc h (by decide) (by decide) (by decide)
theorem Res.er {fi : Nat → Int} {ar : Nat → Nat → Int} {n p : Nat} (k : Tk fi ar n p) {c : Int} : Res (.inl (c, tkF (ar 8) n p)) (Wr fi c) ar n := ⟨Wr_22, Wr_15, Wr_16.trans k.mt.2.1, k.hb⟩
theorem nuS_ok {inp : Nat → Int} {n : Nat} {α : Type} {lo hi : Int} {p : Nat} {k : Int → (Int × Nat) ⊕ α} (h : hC inp n lo hi p = 0) : nuS inp n lo hi p k = k (tkV inp n p) := if_pos h
theorem nuS_er {inp : Nat → Int} {n : Nat} {α : Type} {lo hi : Int} {p : Nat} {k : Int → (Int × Nat) ⊕ α} (h : hC inp n lo hi p ≠ 0) : nuS inp n lo hi p k = .inl (hC inp n lo hi p, tkF inp n p) := if_neg h
theorem ckS_t {inp : Nat → Int} {n : Nat} {α : Type} {c : Int} {p : Nat} {k : (Int × Nat) ⊕ α} {b : Bool} (h : b = true) : ckS inp n b c p k = .inl (c, tkF inp n p) := if_pos h
theorem ckS_f {inp : Nat → Int} {n : Nat} {α : Type} {c : Int} {p : Nat} {k : (Int × Nat) ⊕ α} {b : Bool} (h : b = false) : ckS inp n b c p k = k := if_neg (by rw [h]; decide)
theorem ckS_nt {inp : Nat → Int} {n : Nat} {α : Type} {c : Int} {p : Nat} {k : (Int × Nat) ⊕ α} : ckS inp n (!false) c p k = .inl (c, tkF inp n p) := rfl
theorem ckS_nf {inp : Nat → Int} {n : Nat} {α : Type} {c : Int} {p : Nat} {k : (Int × Nat) ⊕ α} : ckS inp n (!true) c p k = k := rfl
theorem hC_ok {inp : Nat → Int} {n p : Nat} {lo hi : Int} (h : hC inp n lo hi p = 0) : tkK inp n p = 2 ∧ lo ≤ tkV inp n p ∧ tkV inp n p ≤ hi := by
  unfold hC at h
  split at h
  · split at h
    · exact ⟨by assumption, by assumption⟩
    · cases h
  · cases h
/-- the words lie outside the model's own cells -/
def Ot (m : Nat) (D : Nat → Prop) : Prop := ∀ q, D q → q < m ∨ m + 11 < q
theorem hM_o {m : Nat} {fi : Nat → Int} {ar : Nat → Nat → Int} {g : tAH} {q : Nat} (h : q < m ∨ m + 11 < q) : hM m fi ar g q = g q := by
  unfold hM
  rw [if_neg (by omega), if_neg (by omega), if_neg (by omega), if_neg (by omega), if_neg (by omega), if_neg (by omega), if_neg (by omega), if_neg (by omega), if_neg (by omega), if_neg (by omega), if_neg (by omega), if_neg (by omega)]
theorem WD.hM {m : Nat} {fi : Nat → Int} {ar : Nat → Nat → Int} {g : tAH} {D : Nat → Prop} (o : Ot m D) {q : Nat} {l : List Int} (w : WD D g q l) : WD D (hM m fi ar g) q l := by
  obtain ⟨⟨d, b, hv, hz, vq, e1, d1, b', f, e2, e3⟩, h⟩ := w
  exact ⟨⟨d, b, hv, hz, vq, by rw [hM_o (o q d)]; exact e1, d1, b', f, by rw [hM_o (o vq d1)]; exact e2, e3⟩, h⟩
abbrev Wds (G : tG) (m : Nat) (D : Nat → Prop) (g : tAH) : Prop := (Ot m D) ∧ (WD D g (G.1 23) wBar) ∧ (WD D g (G.1 25) wBelow) ∧ (WD D g (G.1 27) wBlock) ∧ (WD D g (G.1 31) wCorner) ∧ (WD D g (G.1 33) wElbow) ∧ (WD D g (G.1 37) wPass) ∧ (WD D g (G.1 39) wPlace) ∧ (WD D g (G.1 41) wPlayer) ∧ (WD D g (G.1 43) wRight) ∧ (WD D g (G.1 45) wRod) ∧ (WD D g (G.1 47) wSquare) ∧ (WD D g (G.1 49) wStrap) ∧ (WD D g (G.1 51) wTrunk)
theorem Wds.ot {G : tG} {m : Nat} {D : Nat → Prop} {g : tAH} (zz : Wds G m D g) : Ot m D := zz.1
theorem Wds.bar {G : tG} {m : Nat} {D : Nat → Prop} {g : tAH} (zz : Wds G m D g) : WD D g (G.1 23) wBar := zz.2.1
theorem Wds.below {G : tG} {m : Nat} {D : Nat → Prop} {g : tAH} (zz : Wds G m D g) : WD D g (G.1 25) wBelow := zz.2.2.1
theorem Wds.block {G : tG} {m : Nat} {D : Nat → Prop} {g : tAH} (zz : Wds G m D g) : WD D g (G.1 27) wBlock := zz.2.2.2.1
theorem Wds.corner {G : tG} {m : Nat} {D : Nat → Prop} {g : tAH} (zz : Wds G m D g) : WD D g (G.1 31) wCorner := zz.2.2.2.2.1
theorem Wds.elbow {G : tG} {m : Nat} {D : Nat → Prop} {g : tAH} (zz : Wds G m D g) : WD D g (G.1 33) wElbow := zz.2.2.2.2.2.1
theorem Wds.pass {G : tG} {m : Nat} {D : Nat → Prop} {g : tAH} (zz : Wds G m D g) : WD D g (G.1 37) wPass := zz.2.2.2.2.2.2.1
theorem Wds.place {G : tG} {m : Nat} {D : Nat → Prop} {g : tAH} (zz : Wds G m D g) : WD D g (G.1 39) wPlace := zz.2.2.2.2.2.2.2.1
theorem Wds.player {G : tG} {m : Nat} {D : Nat → Prop} {g : tAH} (zz : Wds G m D g) : WD D g (G.1 41) wPlayer := zz.2.2.2.2.2.2.2.2.1
theorem Wds.right {G : tG} {m : Nat} {D : Nat → Prop} {g : tAH} (zz : Wds G m D g) : WD D g (G.1 43) wRight := zz.2.2.2.2.2.2.2.2.2.1
theorem Wds.rod {G : tG} {m : Nat} {D : Nat → Prop} {g : tAH} (zz : Wds G m D g) : WD D g (G.1 45) wRod := zz.2.2.2.2.2.2.2.2.2.2.1
theorem Wds.square {G : tG} {m : Nat} {D : Nat → Prop} {g : tAH} (zz : Wds G m D g) : WD D g (G.1 47) wSquare := zz.2.2.2.2.2.2.2.2.2.2.2.1
theorem Wds.strap {G : tG} {m : Nat} {D : Nat → Prop} {g : tAH} (zz : Wds G m D g) : WD D g (G.1 49) wStrap := zz.2.2.2.2.2.2.2.2.2.2.2.2.1
theorem Wds.trunk {G : tG} {m : Nat} {D : Nat → Prop} {g : tAH} (zz : Wds G m D g) : WD D g (G.1 51) wTrunk := zz.2.2.2.2.2.2.2.2.2.2.2.2.2
section TO
variable {G : tG} {m : Nat} {fi : Nat → Int} {ar : Nat → Nat → Int} {g : tAH} {z : Nat × Nat} {D : Nat → Prop}
theorem e_isW {q : Nat} {l : List Int} (o : Ot m D) (w : WD D g q l) (hl : l.length ≤ 10) {n p : Nat} (k : Tk fi ar n p) : t_Ev (t_pg G) t_hd Y_X5_is 0 ([some (.ref m), some (.ref q), none], [], (hM m fi ar g, z)) = rB (wrd (ar 8) n p l) (hM m fi ar g, z) := e_is (w.hM o) hl k
theorem e_sideHere (W : Wds G m D g) {n p : Nat} (k : Tk fi ar n p) (h22 : fi 22 = 0) : t_Ev (t_pg G) t_hd Y_X5_sideHere 0 ([some (.ref m), none], [], (hM m fi ar g, z)) = rI (max 0 (sideS (ar 8) n p)) (hM m (if sideS (ar 8) n p = -1 then Wr fi 1 else fi) ar g, z) := by
  rw [b_X5_sideHere_0]
  simp only [mK, mgI6, mgI7, mgI13, mgI14, mgI15, mgI16, mgI17, mgI18, mgI19, mgI20, mgI21, mgI22, mgI23, mgI24, mgI25, mgI26, mgI27, mgR0, mgR1, mgR2, mgR3, mgR4, mgR5, mgR8, mgR9, mgR10, mgR11, mgR12, Option.bind_some, e_isW W.ot W.right (by decide) k, bI_rB, bB_0]
  unfold sideS
  cases wrd (ar 8) n p wRight with
  | true =>
    rw [if_neg (by decide), if_pos rfl, if_neg (by decide), b_X5_sideHere_27, if_neg (by decide)]
    simp only [mK, mgI6, mgI7, mgI13, mgI14, mgI15, mgI16, mgI17, mgI18, mgI19, mgI20, mgI21, mgI22, mgI23, mgI24, mgI25, mgI26, mgI27, mgR0, mgR1, mgR2, mgR3, mgR4, mgR5, mgR8, mgR9, mgR10, mgR11, mgR12, Option.bind_some, e_wrong_f, bV_rV]
    rw [e_max (by decide) (by decide) (by decide) (by decide), bI_rI]
    rfl
  | false =>
    rw [if_pos rfl, if_neg (by decide)]
    simp only [mK, mgI6, mgI7, mgI13, mgI14, mgI15, mgI16, mgI17, mgI18, mgI19, mgI20, mgI21, mgI22, mgI23, mgI24, mgI25, mgI26, mgI27, mgR0, mgR1, mgR2, mgR3, mgR4, mgR5, mgR8, mgR9, mgR10, mgR11, mgR12, Option.bind_some, e_isW W.ot W.below (by decide) k, bI_rB, bB_0]
    cases wrd (ar 8) n p wBelow with
    | true =>
      rw [if_neg (by decide), if_pos rfl, if_neg (by decide), b_X5_sideHere_27, if_neg (by decide)]
      simp only [mK, mgI6, mgI7, mgI13, mgI14, mgI15, mgI16, mgI17, mgI18, mgI19, mgI20, mgI21, mgI22, mgI23, mgI24, mgI25, mgI26, mgI27, mgR0, mgR1, mgR2, mgR3, mgR4, mgR5, mgR8, mgR9, mgR10, mgR11, mgR12, Option.bind_some, e_wrong_f, bV_rV]
      rw [e_max (by decide) (by decide) (by decide) (by decide), bI_rI]
      rfl
    | false =>
      rw [if_pos rfl, if_neg (by decide), if_pos rfl, b_X5_sideHere_27, if_pos rfl]
      simp only [mK, mgI6, mgI7, mgI13, mgI14, mgI15, mgI16, mgI17, mgI18, mgI19, mgI20, mgI21, mgI22, mgI23, mgI24, mgI25, mgI26, mgI27, mgR0, mgR1, mgR2, mgR3, mgR4, mgR5, mgR8, mgR9, mgR10, mgR11, mgR12, Option.bind_some, e_wrong_t h22, bV_rV]
      rw [e_max (by decide) (by decide) (by decide) (by decide), bI_rI]
      rfl
theorem e_sideHere_w (W : Wds G m D g) {n p : Nat} (k : Tk fi ar n p) (h22 : fi 22 = 1) : ∃ v, t_Ev (t_pg G) t_hd Y_X5_sideHere 0 ([some (.ref m), none], [], (hM m fi ar g, z)) = rI v (hM m fi ar g, z) := by
  have t : ∀ v : Int, ∃ w, t_Ev (t_pg G) t_hd Y_X5_sideHere 27 ([some (.ref m), none], [.int (iI v)], (hM m fi ar g, z)) = rI w (hM m fi ar g, z) := fun v => by
    rw [b_X5_sideHere_27]
    simp only [mK, mgI6, mgI7, mgI13, mgI14, mgI15, mgI16, mgI17, mgI18, mgI19, mgI20, mgI21, mgI22, mgI23, mgI24, mgI25, mgI26, mgI27, mgR0, mgR1, mgR2, mgR3, mgR4, mgR5, mgR8, mgR9, mgR10, mgR11, mgR12, Option.bind_some, e_wrong_w h22, bV_rV]
    have hm : t_Ev (t_pg G) t_hd Y_J7_max 0 ([some (.int (iI 0)), some (.int (iI v))], [], (hM m fi ar g, z)) = rI (max 0 (iI v).toInt) (hM m fi ar g, z) := by
      have := e_max (G := G) (hs := (hM m fi ar g, z)) (a := 0) (b := (iI v).toInt) (by decide) (by decide) (i32_lo _) (i32_hi _)
      rw [iI_self] at this
      exact this
    refine ⟨max 0 (iI v).toInt, ?_⟩
    rw [hm, bI_rI]
    split <;> rfl
  rw [b_X5_sideHere_0]
  simp only [mK, mgI6, mgI7, mgI13, mgI14, mgI15, mgI16, mgI17, mgI18, mgI19, mgI20, mgI21, mgI22, mgI23, mgI24, mgI25, mgI26, mgI27, mgR0, mgR1, mgR2, mgR3, mgR4, mgR5, mgR8, mgR9, mgR10, mgR11, mgR12, Option.bind_some, e_isW W.ot W.right (by decide) k, bI_rB, bB_0]
  split
  · simp only [mK, mgI6, mgI7, mgI13, mgI14, mgI15, mgI16, mgI17, mgI18, mgI19, mgI20, mgI21, mgI22, mgI23, mgI24, mgI25, mgI26, mgI27, mgR0, mgR1, mgR2, mgR3, mgR4, mgR5, mgR8, mgR9, mgR10, mgR11, mgR12, Option.bind_some, e_isW W.ot W.below (by decide) k, bI_rB, bB_0]
    split
    · exact t (-1)
    · exact t 1
  · exact t 0
theorem i10 : (iI 1 = iI 0) = False := by simp; decide
theorem Res.inr {s : tRow} {q n : Nat} {fi : Nat → Int} {ar : Nat → Nat → Int} (h : ar 0 = s) (k : Pk fi ar n q) : Res (.inr (s, q)) fi ar n := ⟨h, k⟩
theorem e_end {n p : Nat} (k : Pk fi ar n p) : ∃ f1 f2, t_Ev (t_pg G) t_hd Y_X5_go 0 ([some (.ref m)], [], (hM m fi ar g, z)) = rV (hM m f1 ar g, z) ∧ t_Ev (t_pg G) t_hd Y_X5_semicolon 0 ([some (.ref m)], [], (hM m f1 ar g, z)) = rV (hM m f2 ar g, z) ∧ Sc PI PJ fi ar f2 ar ∧ Res (endS (ar 8) n (ar 0) p) f2 ar n := by
  obtain ⟨f1, e1, s1, k1⟩ := e_go (G := G) (m := m) (g := g) (z := z) k
  obtain ⟨y, w⟩ := e_semicolon (G := G) (m := m) (g := g) (z := z) k1
  unfold endS
  by_cases c : tkK (ar 8) n (tkT (ar 8) n p) = 3
  · obtain ⟨f2, e2, s2, k2⟩ := y c
    rw [ckS_f (by rw [decide_eq_true c]; rfl)]
    exact ⟨f1, f2, e1, e2, s1.pi.trans s2.pi, Res.inr rfl k2⟩
  · rw [ckS_t (by rw [decide_eq_false c]; rfl)]
    exact ⟨f1, _, e1, w c, s1.pi.pw, Res.er k1.tk⟩
theorem e_blockTold (hD : Dm (ar 0)) (hB : RB (ar 0)) {n p : Nat} (k : Pk fi ar n p) : ∃ fi' ar', t_Ev (t_pg G) t_hd Y_X5_blockTold 0 ([some (.ref m), none, none], [], (hM m fi ar g, z)) = rV (hM m fi' ar' g, z) ∧ Sc PI PJ fi ar fi' ar' ∧ Res (blockS (ar 8) n (ar 0) p) fi' ar' n := by
  have d0 := hD.1
  have d1 := hD.2
  obtain ⟨f1, e1, s1, k1⟩ := e_go (G := G) (m := m) (g := g) (z := z) k
  rw [b_X5_blockTold_0]
  simp only [mK, mgI6, mgI7, mgI13, mgI14, mgI15, mgI16, mgI17, mgI18, mgI19, mgI20, mgI21, mgI22, mgI23, mgI24, mgI25, mgI26, mgI27, mgR0, mgR1, mgR2, mgR3, mgR4, mgR5, mgR8, mgR9, mgR10, mgR11, mgR12, Option.bind_some]
  rw [e1, bV_rV]
  simp (disch := omega) only [mK, mgI6, mgI7, mgI13, mgI14, mgI15, mgI16, mgI17, mgI18, mgI19, mgI20, mgI21, mgI22, mgI23, mgI24, mgI25, mgI26, mgI27, mgR0, mgR1, mgR2, mgR3, mgR4, mgR5, mgR8, mgR9, mgR10, mgR11, mgR12, Option.bind_some, va_rf_some, va_rf_none, bI_rI, bI_rB, bV_rV, bB_0, bB_1, iI_add, iI_sub, iI_mul, iI_neg, rI_of, rV_of, Int.reduceToNat, Int.neg_neg, mld0]
  obtain ⟨y1, n1⟩ := e_number (G := G) (m := m) (g := g) (z := z) k1 (lo := 0) (hi := ar 0 0 - 1) (by omega) (by omega)
  unfold blockS
  by_cases c1 : hC (ar 8) n 0 (ar 0 0 - 1) (tkT (ar 8) n p) = 0
  · obtain ⟨f2, e2, s2, k2⟩ := y1 c1
    have h1 := hC_ok c1
    rw [nuS_ok c1, e2, bI_rI]
    simp (disch := omega) only [mK, mgI6, mgI7, mgI13, mgI14, mgI15, mgI16, mgI17, mgI18, mgI19, mgI20, mgI21, mgI22, mgI23, mgI24, mgI25, mgI26, mgI27, mgR0, mgR1, mgR2, mgR3, mgR4, mgR5, mgR8, mgR9, mgR10, mgR11, mgR12, Option.bind_some, va_rf_some, va_rf_none, bI_rI, bI_rB, bV_rV, bB_0, bB_1, iI_add, iI_sub, iI_mul, iI_neg, rI_of, rV_of, Int.reduceToNat, Int.neg_neg, mld0]
    rw [e_here k2 (by omega) (by omega)]
    by_cases c2 : hC (ar 8) n 0 (ar 0 1 - 1) (tkT (ar 8) n (tkT (ar 8) n p)) = 0
    · have h2 := hC_ok c2
      have hc := hB (33 + (8 * tkV (ar 8) n (tkT (ar 8) n (tkT (ar 8) n p)) + tkV (ar 8) n (tkT (ar 8) n p))).toNat
      rw [if_pos c2, nuS_ok c2, bI_rI]
      simp only [mK, mgI6, mgI7, mgI13, mgI14, mgI15, mgI16, mgI17, mgI18, mgI19, mgI20, mgI21, mgI22, mgI23, mgI24, mgI25, mgI26, mgI27, mgR0, mgR1, mgR2, mgR3, mgR4, mgR5, mgR8, mgR9, mgR10, mgR11, mgR12, Option.bind_some, va_rf_some, va_rf_none, bI_rI, bI_rB, bV_rV, bB_0, bB_1, iI_add, iI_sub, iI_mul, iI_neg, rI_of, rV_of, Int.reduceToNat, Int.neg_neg, k2.h22, if_true]
      rw [e_cell (by omega) (by omega) (by omega) (by omega), bI_rI]
      unfold cI
      simp (disch := omega) only [iI_inj]
      by_cases c3 : ar 0 (33 + (8 * tkV (ar 8) n (tkT (ar 8) n (tkT (ar 8) n p)) + tkV (ar 8) n (tkT (ar 8) n p))).toNat = 1
      · rw [if_pos c3, b_X5_blockTold_55]
        simp only [mK, mgI6, mgI7, mgI13, mgI14, mgI15, mgI16, mgI17, mgI18, mgI19, mgI20, mgI21, mgI22, mgI23, mgI24, mgI25, mgI26, mgI27, mgR0, mgR1, mgR2, mgR3, mgR4, mgR5, mgR8, mgR9, mgR10, mgR11, mgR12, Option.bind_some, va_rf_some, va_rf_none, bI_rI, bI_rB, bV_rV, bB_0, bB_1, iI_add, iI_sub, iI_mul, iI_neg, rI_of, rV_of, Int.reduceToNat, Int.neg_neg, e_wrong_t k2.h22, Wr_22, i10, if_false]
        rw [ckS_t (decide_eq_true c3)]
        exact ⟨_, _, rfl, (s1.pi.trans s2.pi).pw, Res.er k2.tk⟩
      · rw [if_neg c3, b_X5_blockTold_54, b_X5_blockTold_55]
        simp (disch := omega) only [mK, mgI6, mgI7, mgI13, mgI14, mgI15, mgI16, mgI17, mgI18, mgI19, mgI20, mgI21, mgI22, mgI23, mgI24, mgI25, mgI26, mgI27, mgR0, mgR1, mgR2, mgR3, mgR4, mgR5, mgR8, mgR9, mgR10, mgR11, mgR12, Option.bind_some, va_rf_some, va_rf_none, bI_rI, bI_rB, bV_rV, bB_0, bB_1, iI_add, iI_sub, iI_mul, iI_neg, rI_of, rV_of, Int.reduceToNat, Int.neg_neg, mld0, mst0, e_wrong_f, if_true, e_at, k2.h22]
        rw [ckS_f (decide_eq_false c3)]
        have k3 : Pk f2 (aU ar 0 (33 + (8 * tkV (ar 8) n (tkT (ar 8) n (tkT (ar 8) n p)) + tkV (ar 8) n (tkT (ar 8) n p))).toNat 1) n (tkT (ar 8) n (tkT (ar 8) n p)) := k2.cg (I := []) (A := [0]) (Sc.refl.aU (by decide)) (fun _ _ h => nomatch h) (by decide) (by rw [aU_s]; exact k2.hb.set (by decide))
        obtain ⟨f3, f4, e3, e4, s4, r4⟩ := e_end (G := G) (m := m) (g := g) (z := z) k3
        rw [e3, bV_rV]
        simp only [mK, mgI6, mgI7, mgI13, mgI14, mgI15, mgI16, mgI17, mgI18, mgI19, mgI20, mgI21, mgI22, mgI23, mgI24, mgI25, mgI26, mgI27, mgR0, mgR1, mgR2, mgR3, mgR4, mgR5, mgR8, mgR9, mgR10, mgR11, mgR12, Option.bind_some, va_rf_some, va_rf_none, bI_rI, bI_rB, bV_rV, bB_0, bB_1, iI_add, iI_sub, iI_mul, iI_neg, rI_of, rV_of, Int.reduceToNat, Int.neg_neg]
        rw [e4, bV_rV]
        rw [aU_n (by decide), aU_s] at r4
        exact ⟨f4, _, rfl, ((s1.pi.trans s2.pi).trans (Sc.refl.aU (by decide))).trans s4, r4⟩
    · rw [if_neg c2, nuS_er c2, bI_rI]
      simp only [mK, mgI6, mgI7, mgI13, mgI14, mgI15, mgI16, mgI17, mgI18, mgI19, mgI20, mgI21, mgI22, mgI23, mgI24, mgI25, mgI26, mgI27, mgR0, mgR1, mgR2, mgR3, mgR4, mgR5, mgR8, mgR9, mgR10, mgR11, mgR12, Option.bind_some, va_rf_some, va_rf_none, bI_rI, bI_rB, bV_rV, bB_0, bB_1, iI_add, iI_sub, iI_mul, iI_neg, rI_of, rV_of, Int.reduceToNat, Int.neg_neg, mld0, e_here_w Wr_22, e_number_w Wr_22, e_wrong_w Wr_22, e_go_w Wr_22, e_semicolon_w Wr_22, Wr_22, i10, if_false]
      rw [b_X5_blockTold_54, b_X5_blockTold_55]
      simp only [mK, mgI6, mgI7, mgI13, mgI14, mgI15, mgI16, mgI17, mgI18, mgI19, mgI20, mgI21, mgI22, mgI23, mgI24, mgI25, mgI26, mgI27, mgR0, mgR1, mgR2, mgR3, mgR4, mgR5, mgR8, mgR9, mgR10, mgR11, mgR12, Option.bind_some, va_rf_some, va_rf_none, bI_rI, bI_rB, bV_rV, bB_0, bB_1, iI_add, iI_sub, iI_mul, iI_neg, rI_of, rV_of, Int.reduceToNat, Int.neg_neg, mld0, e_here_w Wr_22, e_number_w Wr_22, e_wrong_w Wr_22, e_go_w Wr_22, e_semicolon_w Wr_22, Wr_22, i10, if_false]
      exact ⟨_, _, rfl, (s1.pi.trans s2.pi).pw, Res.er k2.tk⟩
  · rw [nuS_er c1, n1 c1, bI_rI]
    simp (disch := omega) only [mK, mgI6, mgI7, mgI13, mgI14, mgI15, mgI16, mgI17, mgI18, mgI19, mgI20, mgI21, mgI22, mgI23, mgI24, mgI25, mgI26, mgI27, mgR0, mgR1, mgR2, mgR3, mgR4, mgR5, mgR8, mgR9, mgR10, mgR11, mgR12, Option.bind_some, va_rf_some, va_rf_none, bI_rI, bI_rB, bV_rV, bB_0, bB_1, iI_add, iI_sub, iI_mul, iI_neg, rI_of, rV_of, Int.reduceToNat, Int.neg_neg, mld0, e_here_w Wr_22, e_number_w Wr_22, e_wrong_w Wr_22, e_go_w Wr_22, e_semicolon_w Wr_22, Wr_22, i10, if_false]
    rw [b_X5_blockTold_54, b_X5_blockTold_55]
    simp only [mK, mgI6, mgI7, mgI13, mgI14, mgI15, mgI16, mgI17, mgI18, mgI19, mgI20, mgI21, mgI22, mgI23, mgI24, mgI25, mgI26, mgI27, mgR0, mgR1, mgR2, mgR3, mgR4, mgR5, mgR8, mgR9, mgR10, mgR11, mgR12, Option.bind_some, va_rf_some, va_rf_none, bI_rI, bI_rB, bV_rV, bB_0, bB_1, iI_add, iI_sub, iI_mul, iI_neg, rI_of, rV_of, Int.reduceToNat, Int.neg_neg, mld0, e_here_w Wr_22, e_number_w Wr_22, e_wrong_w Wr_22, e_go_w Wr_22, e_semicolon_w Wr_22, Wr_22, i10, if_false]
    exact ⟨_, _, rfl, s1.pi.pw, Res.er k1.tk⟩
theorem sideS_c {inp : Nat → Int} {n p : Nat} : sideS inp n p = -1 ∨ sideS inp n p = 0 ∨ sideS inp n p = 1 := by
  unfold sideS
  split
  · exact Or.inr (Or.inl rfl)
  · split
    · exact Or.inr (Or.inr rfl)
    · exact Or.inl rfl
theorem isEd_b {s : tRow} (hD : Dm s) {x y d : Int} (h : isEd s x y d = true) (hd : d = 0 ∨ d = 1) : (0 ≤ x ∧ x ≤ 7) ∧ (0 ≤ y ∧ y ≤ 7) ∧ (0 ≤ bey0 x d ∧ bey0 x d ≤ 7) ∧ (0 ≤ bey1 y d ∧ bey1 y d ≤ 7) ∧ 0 ≤ edI x y d ∧ edI x y d < 417 := by
  have d0 := hD.1
  have d1 := hD.2
  unfold isEd at h
  rw [Bool.and_eq_true] at h
  have h1 := inB_iff.mp h.1
  have h2 := h.2
  unfold bey0 bey1 edI
  rcases hd with rfl | rfl
  · rw [if_pos rfl] at h2
    have h3 := inB_iff.mp h2
    simp only [if_true]
    omega
  · rw [if_neg (by decide)] at h2
    have h3 := inB_iff.mp h2
    simp only [if_neg (show ¬ ((1:Int) = 0) by decide)]
    omega
theorem e_edgeTold (W : Wds G m D g) (hD : Dm (ar 0)) (hB : RB (ar 0)) {n p : Nat} (k : Pk fi ar n p) : ∃ fi' ar', t_Ev (t_pg G) t_hd Y_X5_edgeTold 0 ([some (.ref m), none, none, none, none], [], (hM m fi ar g, z)) = rV (hM m fi' ar' g, z) ∧ Sc PI PJ fi ar fi' ar' ∧ Res (edgeS (ar 8) n (ar 0) p) fi' ar' n := by
  have d0 := hD.1
  have d1 := hD.2
  obtain ⟨f1, e1, s1, k1⟩ := e_go (G := G) (m := m) (g := g) (z := z) k
  rw [b_X5_edgeTold_0]
  simp only [mK, mgI6, mgI7, mgI13, mgI14, mgI15, mgI16, mgI17, mgI18, mgI19, mgI20, mgI21, mgI22, mgI23, mgI24, mgI25, mgI26, mgI27, mgR0, mgR1, mgR2, mgR3, mgR4, mgR5, mgR8, mgR9, mgR10, mgR11, mgR12, Option.bind_some]
  rw [e1, bV_rV]
  simp (disch := omega) only [mK, mgI6, mgI7, mgI13, mgI14, mgI15, mgI16, mgI17, mgI18, mgI19, mgI20, mgI21, mgI22, mgI23, mgI24, mgI25, mgI26, mgI27, mgR0, mgR1, mgR2, mgR3, mgR4, mgR5, mgR8, mgR9, mgR10, mgR11, mgR12, Option.bind_some, va_rf_some, va_rf_none, bI_rI, bI_rB, bV_rV, bB_0, bB_1, iI_add, iI_sub, iI_mul, iI_neg, rI_of, rV_of, Int.reduceToNat, Int.neg_neg, mld0]
  obtain ⟨y1, n1⟩ := e_number (G := G) (m := m) (g := g) (z := z) k1 (lo := 0) (hi := ar 0 0 - 1) (by omega) (by omega)
  -- a wrong end
  have bad : ∀ (f : Nat → Int) (c : Int) (q : Nat), Tk f ar n q → ∃ v, t_Ev (t_pg G) t_hd Y_X5_sideHere 0 ([some (.ref m), none], [], (hM m (Wr f c) ar g, z)) = rI v (hM m (Wr f c) ar g, z) := fun f c q t => e_sideHere_w W t.wr Wr_22
  have bad2 : ∀ (f : Nat → Int) (c : Int) (x y d : Int), t_Ev (t_pg G) t_hd Y_X5_edgeTold 59 ([some (.ref m), some (.int (iI x)), some (.int (iI y)), some (.int (iI d)), none], [(.ref m)], (hM m (Wr f c) ar g, z)) = rV (hM m (Wr f c) ar g, z) := fun f c x y d => by
    rw [b_X5_edgeTold_59, b_X5_edgeTold_60]
    simp only [mK, mgI6, mgI7, mgI13, mgI14, mgI15, mgI16, mgI17, mgI18, mgI19, mgI20, mgI21, mgI22, mgI23, mgI24, mgI25, mgI26, mgI27, mgR0, mgR1, mgR2, mgR3, mgR4, mgR5, mgR8, mgR9, mgR10, mgR11, mgR12, Option.bind_some, va_rf_some, va_rf_none, bI_rI, bI_rB, bV_rV, bB_0, bB_1, iI_add, iI_sub, iI_mul, iI_neg, rI_of, rV_of, Int.reduceToNat, Int.neg_neg, mld0, e_here_w Wr_22, e_number_w Wr_22, e_wrong_w Wr_22, e_go_w Wr_22, e_semicolon_w Wr_22, Wr_22, i10, if_false]
    rw [b_X5_edgeTold_91, b_X5_edgeTold_92]
    simp only [mK, mgI6, mgI7, mgI13, mgI14, mgI15, mgI16, mgI17, mgI18, mgI19, mgI20, mgI21, mgI22, mgI23, mgI24, mgI25, mgI26, mgI27, mgR0, mgR1, mgR2, mgR3, mgR4, mgR5, mgR8, mgR9, mgR10, mgR11, mgR12, Option.bind_some, va_rf_some, va_rf_none, bI_rI, bI_rB, bV_rV, bB_0, bB_1, iI_add, iI_sub, iI_mul, iI_neg, rI_of, rV_of, Int.reduceToNat, Int.neg_neg, mld0, e_here_w Wr_22, e_number_w Wr_22, e_wrong_w Wr_22, e_go_w Wr_22, e_semicolon_w Wr_22, Wr_22, i10, if_false]
  unfold edgeS
  by_cases c1 : hC (ar 8) n 0 (ar 0 0 - 1) (tkT (ar 8) n p) = 0
  · obtain ⟨f2, e2, s2, k2⟩ := y1 c1
    have h1 := hC_ok c1
    rw [nuS_ok c1, e2, bI_rI]
    simp (disch := omega) only [mK, mgI6, mgI7, mgI13, mgI14, mgI15, mgI16, mgI17, mgI18, mgI19, mgI20, mgI21, mgI22, mgI23, mgI24, mgI25, mgI26, mgI27, mgR0, mgR1, mgR2, mgR3, mgR4, mgR5, mgR8, mgR9, mgR10, mgR11, mgR12, Option.bind_some, va_rf_some, va_rf_none, bI_rI, bI_rB, bV_rV, bB_0, bB_1, iI_add, iI_sub, iI_mul, iI_neg, rI_of, rV_of, Int.reduceToNat, Int.neg_neg, mld0]
    obtain ⟨y2, n2⟩ := e_number (G := G) (m := m) (g := g) (z := z) k2 (lo := 0) (hi := ar 0 1 - 1) (by omega) (by omega)
    by_cases c2 : hC (ar 8) n 0 (ar 0 1 - 1) (tkT (ar 8) n (tkT (ar 8) n p)) = 0
    · obtain ⟨f3, e3, s3, k3⟩ := y2 c2
      have h2 := hC_ok c2
      rw [nuS_ok c2, e3, bI_rI]
      simp only [mK, mgI6, mgI7, mgI13, mgI14, mgI15, mgI16, mgI17, mgI18, mgI19, mgI20, mgI21, mgI22, mgI23, mgI24, mgI25, mgI26, mgI27, mgR0, mgR1, mgR2, mgR3, mgR4, mgR5, mgR8, mgR9, mgR10, mgR11, mgR12, Option.bind_some, va_rf_some, va_rf_none, bI_rI, bI_rB, bV_rV, bB_0, bB_1, iI_add, iI_sub, iI_mul, iI_neg, rI_of, rV_of, Int.reduceToNat, Int.neg_neg]
      rw [e_sideHere W k3.tk k3.h22, bI_rI]
      have hsd := sideS_c (inp := ar 8) (n := n) (p := tkT (ar 8) n (tkT (ar 8) n (tkT (ar 8) n p)))
      have s3' := (s1.pi.trans s2.pi).trans s3.pi
      try dsimp only
      generalize sideS (ar 8) n (tkT (ar 8) n (tkT (ar 8) n (tkT (ar 8) n p))) = d at hsd ⊢
      generalize tkV (ar 8) n (tkT (ar 8) n p) = x at h1 ⊢
      generalize tkV (ar 8) n (tkT (ar 8) n (tkT (ar 8) n p)) = y at h2 ⊢
      by_cases cd : d = -1
      · rw [if_pos cd, ckS_t (decide_eq_true cd)]
        simp only [mK, mgI6, mgI7, mgI13, mgI14, mgI15, mgI16, mgI17, mgI18, mgI19, mgI20, mgI21, mgI22, mgI23, mgI24, mgI25, mgI26, mgI27, mgR0, mgR1, mgR2, mgR3, mgR4, mgR5, mgR8, mgR9, mgR10, mgR11, mgR12, Option.bind_some, va_rf_some, va_rf_none, bI_rI, bI_rB, bV_rV, bB_0, bB_1, iI_add, iI_sub, iI_mul, iI_neg, rI_of, rV_of, Int.reduceToNat, Int.neg_neg, mld0, e_here_w Wr_22, e_number_w Wr_22, e_wrong_w Wr_22, e_go_w Wr_22, e_semicolon_w Wr_22, Wr_22, i10, if_false]
        rw [bad2]
        exact ⟨_, _, rfl, s3'.pw, Res.er k3.tk⟩
      · have hd : d = 0 ∨ d = 1 := hsd.resolve_left cd
        rw [if_neg cd, ckS_f (decide_eq_false cd), show max 0 d = d by omega]
        simp only [mK, mgI6, mgI7, mgI13, mgI14, mgI15, mgI16, mgI17, mgI18, mgI19, mgI20, mgI21, mgI22, mgI23, mgI24, mgI25, mgI26, mgI27, mgR0, mgR1, mgR2, mgR3, mgR4, mgR5, mgR8, mgR9, mgR10, mgR11, mgR12, Option.bind_some, va_rf_some, va_rf_none, bI_rI, bI_rB, bV_rV, bB_0, bB_1, iI_add, iI_sub, iI_mul, iI_neg, rI_of, rV_of, Int.reduceToNat, Int.neg_neg, k3.h22, if_true]
        rw [e_isEdge hD (by omega) (by omega) (by omega) (by omega) (by omega) (by omega), bI_rB]
        simp only [bB_0]
        cases ce : isEd (ar 0) x y d with
        | false =>
          rw [if_pos rfl, ckS_nt, b_X5_edgeTold_60]
          simp only [mK, mgI6, mgI7, mgI13, mgI14, mgI15, mgI16, mgI17, mgI18, mgI19, mgI20, mgI21, mgI22, mgI23, mgI24, mgI25, mgI26, mgI27, mgR0, mgR1, mgR2, mgR3, mgR4, mgR5, mgR8, mgR9, mgR10, mgR11, mgR12, Option.bind_some, va_rf_some, va_rf_none, bI_rI, bI_rB, bV_rV, bB_0, bB_1, iI_add, iI_sub, iI_mul, iI_neg, rI_of, rV_of, Int.reduceToNat, Int.neg_neg, e_wrong_t k3.h22, Wr_22, i10, if_false]
          rw [b_X5_edgeTold_91, b_X5_edgeTold_92]
          simp only [mK, mgI6, mgI7, mgI13, mgI14, mgI15, mgI16, mgI17, mgI18, mgI19, mgI20, mgI21, mgI22, mgI23, mgI24, mgI25, mgI26, mgI27, mgR0, mgR1, mgR2, mgR3, mgR4, mgR5, mgR8, mgR9, mgR10, mgR11, mgR12, Option.bind_some, va_rf_some, va_rf_none, bI_rI, bI_rB, bV_rV, bB_0, bB_1, iI_add, iI_sub, iI_mul, iI_neg, rI_of, rV_of, Int.reduceToNat, Int.neg_neg, mld0, e_here_w Wr_22, e_number_w Wr_22, e_wrong_w Wr_22, e_go_w Wr_22, e_semicolon_w Wr_22, Wr_22, i10, if_false]
          exact ⟨_, _, rfl, s3'.pw, Res.er k3.tk⟩
        | true =>
          obtain ⟨bx, by', bu, bv, be0, be1⟩ := isEd_b hD ce hd
          have hs := hB (edI x y d).toNat
          rw [if_neg (by decide), ckS_nf, b_X5_edgeTold_59, b_X5_edgeTold_60]
          simp (disch := omega) only [mK, mgI6, mgI7, mgI13, mgI14, mgI15, mgI16, mgI17, mgI18, mgI19, mgI20, mgI21, mgI22, mgI23, mgI24, mgI25, mgI26, mgI27, mgR0, mgR1, mgR2, mgR3, mgR4, mgR5, mgR8, mgR9, mgR10, mgR11, mgR12, Option.bind_some, va_rf_some, va_rf_none, bI_rI, bI_rB, bV_rV, bB_0, bB_1, iI_add, iI_sub, iI_mul, iI_neg, rI_of, rV_of, Int.reduceToNat, Int.neg_neg, mld0, e_wrong_f, k3.h22, if_true, e_edge, iI_inj]
          unfold stB
          by_cases c4 : ar 0 (edI x y d).toNat = 1
          · rw [if_pos c4, ckS_t (decide_eq_true c4), b_X5_edgeTold_92]
            simp only [mK, mgI6, mgI7, mgI13, mgI14, mgI15, mgI16, mgI17, mgI18, mgI19, mgI20, mgI21, mgI22, mgI23, mgI24, mgI25, mgI26, mgI27, mgR0, mgR1, mgR2, mgR3, mgR4, mgR5, mgR8, mgR9, mgR10, mgR11, mgR12, Option.bind_some, va_rf_some, va_rf_none, bI_rI, bI_rB, bV_rV, bB_0, bB_1, iI_add, iI_sub, iI_mul, iI_neg, rI_of, rV_of, Int.reduceToNat, Int.neg_neg, e_wrong_t k3.h22, Wr_22, i10, if_false]
            exact ⟨_, _, rfl, s3'.pw, Res.er k3.tk⟩
          · rw [if_neg c4, ckS_f (decide_eq_false c4), b_X5_edgeTold_91, b_X5_edgeTold_92]
            have t5 : t_Ev (t_pg G) t_hd Y_X5_edgeTold 149 ([some (.ref m), some (.int (iI x)), some (.int (iI y)), some (.int (iI d)), none], [.int (iI 1)], (hM m f3 ar g, z)) = rV (hM m (Wr f3 5) ar g, z) := by
              rw [b_X5_edgeTold_149]
              simp only [mK, mgI6, mgI7, mgI13, mgI14, mgI15, mgI16, mgI17, mgI18, mgI19, mgI20, mgI21, mgI22, mgI23, mgI24, mgI25, mgI26, mgI27, mgR0, mgR1, mgR2, mgR3, mgR4, mgR5, mgR8, mgR9, mgR10, mgR11, mgR12, Option.bind_some, va_rf_some, va_rf_none, bI_rI, bI_rB, bV_rV, bB_0, bB_1, iI_add, iI_sub, iI_mul, iI_neg, rI_of, rV_of, Int.reduceToNat, Int.neg_neg, e_wrong_t k3.h22, Wr_22, i10, if_false]
            have hc := hB (33 + (8 * y + x)).toNat
            have hc' := hB (33 + (8 * bey1 y d + bey0 x d)).toNat
            simp (disch := omega) only [mK, mgI6, mgI7, mgI13, mgI14, mgI15, mgI16, mgI17, mgI18, mgI19, mgI20, mgI21, mgI22, mgI23, mgI24, mgI25, mgI26, mgI27, mgR0, mgR1, mgR2, mgR3, mgR4, mgR5, mgR8, mgR9, mgR10, mgR11, mgR12, Option.bind_some, va_rf_some, va_rf_none, bI_rI, bI_rB, bV_rV, bB_0, bB_1, iI_add, iI_sub, iI_mul, iI_neg, rI_of, rV_of, Int.reduceToNat, Int.neg_neg, e_wrong_f, k3.h22, if_true, e_cell, iI_inj]
            unfold cI
            by_cases c5 : ar 0 (33 + (8 * y + x)).toNat = 1
            · simp (disch := omega) only [iI_inj]
              rw [if_pos c5, ckS_t (by rw [decide_eq_true c5]; rfl), b_X5_edgeTold_144, t5]
              exact ⟨_, _, rfl, s3'.pw, Res.er k3.tk⟩
            · have t6 : t_Ev (t_pg G) t_hd Y_X5_edgeTold 137 ([some (.ref m), some (.int (iI x)), some (.int (iI y)), some (.int (iI d)), none], [.int (iI (bey1 y d)), .int (iI (bey0 x d)), (.ref m)], (hM m f3 ar g, z)) = if ar 0 (33 + (8 * bey1 y d + bey0 x d)).toNat = 1 then rV (hM m (Wr f3 5) ar g, z) else t_Ev (t_pg G) t_hd Y_X5_edgeTold 149 ([some (.ref m), some (.int (iI x)), some (.int (iI y)), some (.int (iI d)), none], [.int (iI 0)], (hM m f3 ar g, z)) := by
                rw [b_X5_edgeTold_137]
                simp (disch := omega) only [mK, mgI6, mgI7, mgI13, mgI14, mgI15, mgI16, mgI17, mgI18, mgI19, mgI20, mgI21, mgI22, mgI23, mgI24, mgI25, mgI26, mgI27, mgR0, mgR1, mgR2, mgR3, mgR4, mgR5, mgR8, mgR9, mgR10, mgR11, mgR12, Option.bind_some, va_rf_some, va_rf_none, bI_rI, bI_rB, bV_rV, bB_0, bB_1, iI_add, iI_sub, iI_mul, iI_neg, rI_of, rV_of, Int.reduceToNat, Int.neg_neg, e_cell, iI_inj]
                unfold cI
                simp (disch := omega) only [iI_inj]
                by_cases c6 : ar 0 (33 + (8 * bey1 y d + bey0 x d)).toNat = 1
                · rw [if_pos c6, if_pos c6, b_X5_edgeTold_144, t5]
                · rw [if_neg c6, if_neg c6]
              have t7 : (if d = 0 then t_Ev (t_pg G) t_hd Y_X5_edgeTold 126 ([some (.ref m), some (.int (iI x)), some (.int (iI y)), some (.int (iI d)), none], [.int (iI (x + 1)), (.ref m)], (hM m f3 ar g, z)) else t_Ev (t_pg G) t_hd Y_X5_edgeTold 126 ([some (.ref m), some (.int (iI x)), some (.int (iI y)), some (.int (iI d)), none], [.int (iI x), (.ref m)], (hM m f3 ar g, z))) = t_Ev (t_pg G) t_hd Y_X5_edgeTold 137 ([some (.ref m), some (.int (iI x)), some (.int (iI y)), some (.int (iI d)), none], [.int (iI (bey1 y d)), .int (iI (bey0 x d)), (.ref m)], (hM m f3 ar g, z)) := by
                unfold bey0 bey1
                rcases hd with rfl | rfl
                · simp only [if_true]
                  rw [b_X5_edgeTold_126, if_pos rfl]
                · rw [if_neg (by decide), b_X5_edgeTold_126, if_neg (by decide), if_neg (by decide), if_neg (by decide)]
                  simp only [iI_add]
              simp (disch := omega) only [iI_inj]
              rw [if_neg c5, t7, t6]
              by_cases c6 : ar 0 (33 + (8 * bey1 y d + bey0 x d)).toNat = 1
              · rw [if_pos c6, ckS_t (by rw [decide_eq_true c6, Bool.or_true])]
                exact ⟨_, _, rfl, s3'.pw, Res.er k3.tk⟩
              · rw [if_neg c6, ckS_f (by rw [decide_eq_false c5, decide_eq_false c6]; rfl), b_X5_edgeTold_149]
                simp (disch := omega) only [mK, mgI6, mgI7, mgI13, mgI14, mgI15, mgI16, mgI17, mgI18, mgI19, mgI20, mgI21, mgI22, mgI23, mgI24, mgI25, mgI26, mgI27, mgR0, mgR1, mgR2, mgR3, mgR4, mgR5, mgR8, mgR9, mgR10, mgR11, mgR12, Option.bind_some, va_rf_some, va_rf_none, bI_rI, bI_rB, bV_rV, bB_0, bB_1, iI_add, iI_sub, iI_mul, iI_neg, rI_of, rV_of, Int.reduceToNat, Int.neg_neg, mld0, mst0, e_wrong_f, if_true, e_at, k3.h22, e_edge]
                have k4 : Pk f3 (aU ar 0 (edI x y d).toNat 1) n (tkT (ar 8) n (tkT (ar 8) n (tkT (ar 8) n p))) := k3.cg (I := []) (A := [0]) (Sc.refl.aU (by decide)) (fun _ _ h => nomatch h) (by decide) (by rw [aU_s]; exact k3.hb.set (by decide))
                obtain ⟨f4, f5, e4, e5, s5, r5⟩ := e_end (G := G) (m := m) (g := g) (z := z) k4
                rw [e4, bV_rV]
                simp only [mK, mgI6, mgI7, mgI13, mgI14, mgI15, mgI16, mgI17, mgI18, mgI19, mgI20, mgI21, mgI22, mgI23, mgI24, mgI25, mgI26, mgI27, mgR0, mgR1, mgR2, mgR3, mgR4, mgR5, mgR8, mgR9, mgR10, mgR11, mgR12, Option.bind_some, va_rf_some, va_rf_none, bI_rI, bI_rB, bV_rV, bB_0, bB_1, iI_add, iI_sub, iI_mul, iI_neg, rI_of, rV_of, Int.reduceToNat, Int.neg_neg]
                rw [e5, bV_rV]
                rw [aU_n (by decide), aU_s] at r5
                exact ⟨f5, _, rfl, (s3'.trans (Sc.refl.aU (by decide))).trans s5, r5⟩
    · rw [nuS_er c2, n2 c2, bI_rI]
      simp only [mK, mgI6, mgI7, mgI13, mgI14, mgI15, mgI16, mgI17, mgI18, mgI19, mgI20, mgI21, mgI22, mgI23, mgI24, mgI25, mgI26, mgI27, mgR0, mgR1, mgR2, mgR3, mgR4, mgR5, mgR8, mgR9, mgR10, mgR11, mgR12, Option.bind_some, va_rf_some, va_rf_none, bI_rI, bI_rB, bV_rV, bB_0, bB_1, iI_add, iI_sub, iI_mul, iI_neg, rI_of, rV_of, Int.reduceToNat, Int.neg_neg]
      obtain ⟨v, ev⟩ := bad f2 (hC (ar 8) n 0 (ar 0 1 - 1) (tkT (ar 8) n (tkT (ar 8) n p))) _ k2.tk
      rw [ev, bI_rI]
      simp only [mK, mgI6, mgI7, mgI13, mgI14, mgI15, mgI16, mgI17, mgI18, mgI19, mgI20, mgI21, mgI22, mgI23, mgI24, mgI25, mgI26, mgI27, mgR0, mgR1, mgR2, mgR3, mgR4, mgR5, mgR8, mgR9, mgR10, mgR11, mgR12, Option.bind_some, va_rf_some, va_rf_none, bI_rI, bI_rB, bV_rV, bB_0, bB_1, iI_add, iI_sub, iI_mul, iI_neg, rI_of, rV_of, Int.reduceToNat, Int.neg_neg, mld0, e_here_w Wr_22, e_number_w Wr_22, e_wrong_w Wr_22, e_go_w Wr_22, e_semicolon_w Wr_22, Wr_22, i10, if_false]
      rw [bad2]
      exact ⟨_, _, rfl, (s1.pi.trans s2.pi).pw, Res.er k2.tk⟩
  · rw [nuS_er c1, n1 c1, bI_rI]
    simp (disch := omega) only [mK, mgI6, mgI7, mgI13, mgI14, mgI15, mgI16, mgI17, mgI18, mgI19, mgI20, mgI21, mgI22, mgI23, mgI24, mgI25, mgI26, mgI27, mgR0, mgR1, mgR2, mgR3, mgR4, mgR5, mgR8, mgR9, mgR10, mgR11, mgR12, Option.bind_some, va_rf_some, va_rf_none, bI_rI, bI_rB, bV_rV, bB_0, bB_1, iI_add, iI_sub, iI_mul, iI_neg, rI_of, rV_of, Int.reduceToNat, Int.neg_neg, mld0, e_here_w Wr_22, e_number_w Wr_22, e_wrong_w Wr_22, e_go_w Wr_22, e_semicolon_w Wr_22, Wr_22, i10, if_false]
    obtain ⟨v, ev⟩ := bad f1 (hC (ar 8) n 0 (ar 0 0 - 1) (tkT (ar 8) n p)) _ k1.tk
    rw [ev, bI_rI]
    simp only [mK, mgI6, mgI7, mgI13, mgI14, mgI15, mgI16, mgI17, mgI18, mgI19, mgI20, mgI21, mgI22, mgI23, mgI24, mgI25, mgI26, mgI27, mgR0, mgR1, mgR2, mgR3, mgR4, mgR5, mgR8, mgR9, mgR10, mgR11, mgR12, Option.bind_some, va_rf_some, va_rf_none, bI_rI, bI_rB, bV_rV, bB_0, bB_1, iI_add, iI_sub, iI_mul, iI_neg, rI_of, rV_of, Int.reduceToNat, Int.neg_neg, mld0, e_here_w Wr_22, e_number_w Wr_22, e_wrong_w Wr_22, e_go_w Wr_22, e_semicolon_w Wr_22, Wr_22, i10, if_false]
    rw [bad2]
    exact ⟨_, _, rfl, s1.pi.pw, Res.er k1.tk⟩
end TO
