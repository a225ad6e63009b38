/-! ===== the component: a piece placed ===== -/
/-- where the players lie -/
def PA (h : tAH) (a pa : Nat) (fp : Nat → Option Nat) : Prop := gfR h (.ref a) 2 5 = some (some pa) ∧ h pa = some (true, 7, .inr (2, .inr (.inr (.inr (.inr fp)))))
theorem gfR_inv {h : tAH} {a c c' k v : Nat} {b : Bool} {fl : List Value} (H : gfR h (.ref a) c k = some (some v)) (ha : h a = some (b, c', .inl fl)) : fl[k]? = some (.ref v) := by
  simp only [gfR, ha] at H
  by_cases hc : c' = c
  · rw [if_pos hc] at H
    split at H
    · cases H
    · rename_i z hz
      cases H
      exact hz
    · cases H
  · rw [if_neg hc] at H; cases H
theorem PA.up {h : tAH} {a pa z : Nat} {fp : Nat → Option Nat} {e0 e : tEnt} (H : PA h a pa fp) (hz : h z = some e0) (ht : tg e0 ≠ (7, 3)) (hne : a ≠ z) : PA (t_up h z e) a pa fp := ⟨(gfR_cg (t_up_n hne)).trans H.1, up_tg H.2 hz fun w => ht (by rw [← w]; rfl)⟩
theorem PA.ld {h : tAH} {a pa : Nat} {fp : Nat → Option Nat} {p : Int} (H : PA h a pa fp) (h0 : 0 ≤ p) (h1 : p < 2) : ldR h (.ref pa) (iI p) = some (fp p.toNat) := ldR_at H.2 (by decide) h0 (by omega) (by decide)
theorem enc_2 {p : Int} (h : 0 ≤ p) : enc (2 + p) = p := by unfold enc; rw [if_neg (by omega), if_neg (by omega)]; omega
section PT
variable {G : tG} {D M : Nat → Prop} {hs : tHS} {a q np : Nat} {s : tRow} {sh r x y : Int}
theorem GR.pa {h : tAH} (H : GR G D M h a s np) : ∃ pa fp, PA h a pa fp ∧ ∀ p, p < np → ∃ b, fp p = some b ∧ h b ≠ none := by
  obtain ⟨sv, ca, sa, pa, qa, fc, fs, fp, fq, pl, su, ⟨m1, e1⟩, e2, e3, e4, ⟨m5, e5⟩, e6, -⟩ := H
  refine ⟨pa, fp, ⟨gfR_at e1 rfl, e5⟩, fun p hp => ⟨_, (e6 p hp).1, ?_⟩⟩
  obtain ⟨nm, f, ⟨n1, q1⟩, -⟩ := (e6 p hp).2
  rw [q1]
  exact fun z => by cases z
theorem GR.aa {h : tAH} (H : GR G D M h a s np) : ∃ fl, h a = some (true, 2, .inl fl) := by
  obtain ⟨sv, ca, sa, pa, qa, fc, fs, fp, fq, pl, su, ⟨m1, e1⟩, -⟩ := H
  exact ⟨_, e1⟩
theorem CH.up {h : tAH} {z : Nat} {e0 e : tEnt} (H : CH G D h) (hz : h z = some e0) (h1 : (tg e0).1 ≠ 18) (h2 : (tg e0).1 = 0 → (tg e0).2 = 65 ∨ (tg e0).2 = 6) : CH G D (t_up h z e) := fun j hj => by
  obtain ⟨⟨d1, b1, e1⟩, d2, b2, f, e2, e3⟩ := H j hj
  refine ⟨⟨d1, b1, up_tg e1 hz fun w => h1 (by rw [← w]; rfl)⟩, d2, b2, f, up_tg e2 hz fun w => ?_, e3⟩
  have hN := shN_b (sh := (j : Int))
  have w1 : (tg e0).1 = 0 := by rw [← w]; rfl
  have w2 : (tg e0).2 = 2 * shN j + 1 := by rw [← w]; rfl
  have := h2 w1
  omega
theorem c_put28 (H : GR G D M hs.1 a s 2) (C : CH G D hs.1) (P : PL G D hs.1 q sh r x y) (hF : Fi hs) (hDn : D hs.2.1) (hB : RB s) (hT : s 2 ≤ 1) (h31 : s 4 ≤ 31) (h1 : 0 ≤ sh) (h2 : sh ≤ 4) (h3 : 0 ≤ r) (h4 : r ≤ 3) (hI : ∀ k, k < shN sh → (0 ≤ cX sh r x k ∧ cX sh r x k ≤ 7) ∧ 0 ≤ cY sh r y k ∧ cY sh r y k ≤ 7) {pa b : Nat} {fp : Nat → Option Nat} (A : PA hs.1 a pa fp) (hb : fp (s 2).toNat = some b) :
    ∃ hs', t_Ev (t_pg G) t_hd Y_X3_put 28 ([some (.ref a), some (.ref q), some (.int (iI (pts s sh r y))), some (.ref b), some (.int (iI 0))], [], hs) = rI (pts s sh r y) hs' ∧ GR G D M hs'.1 a (plc s sh r x y) 2 ∧ Mx M 1 3 hs hs' := by
  have ht := (hB 2).1
  have h40 := (hB 4).1
  have hN := shN_b (sh := sh)
  have sC : ∀ {k j : Nat}, k ≤ shN sh → (j < 33 ∨ 97 ≤ j) → setC s sh r x y (2 + s 4) k j = s j := fun hk hj => setC_n (fun q hq => hI q (by omega)) hj
  obtain ⟨hs1, ⟨H1, C1, P1, A1, m1, z1⟩, e1⟩ := lp_ik (N := shN sh) (I := fun k (c : tHS) => GR G D M c.1 a (setC s sh r x y (2 + s 4) k) 2 ∧ CH G D c.1 ∧ PL G D c.1 q sh r x y ∧ PA c.1 a pa fp ∧ Mx M 0 0 hs c ∧ c.2 = hs.2) (F := fun k c => t_Ev (t_pg G) t_hd Y_X3_put 28 ([some (.ref a), some (.ref q), some (.int (iI (pts s sh r y))), some (.ref b), some (.int (iI (k : Int)))], [], c)) (fun k hk c hc => by
    obtain ⟨H1, C1, P1, A1, m1, z1⟩ := hc
    have hk' : (k : Int) < (shN sh : Int) := by omega
    have pk := hI k hk
    obtain ⟨ca, fc, g1, g2, g3, g4⟩ := H1.wCell (Nat.le_refl 2) (j := (cY sh r y k * 8 + cX sh r x k).toNat) (by omega) (v := 2 + s 4)
    obtain ⟨fl, ha⟩ := H1.aa
    have hne : a ≠ ca := ne_tg ha g2 (by show ((2:Nat), 0) ≠ (0, 65); decide)
    rw [show 33 + (cY sh r y k * 8 + cX sh r x k).toNat = (33 + (8 * cY sh r y k + cX sh r x k)).toNat by omega, enc_2 h40] at g4
    have i8 := H1.i8
    rw [sC (by omega) (by omega)] at i8
    refine ⟨(t_up c.1 ca (true, 0, .inr (64, .inl (upd fc (cY sh r y k * 8 + cX sh r x k).toNat (iI (s 4))))), c.2), ⟨g4, C1.up g2 (by show (0:Nat) ≠ 18; decide) (fun _ => Or.inl rfl), P1.upT g2 (by show ((0:Nat), 65) ≠ (5, 0); decide), A1.up g2 (by show ((0:Nat), 65) ≠ (7, 3); decide) hne, (m1.trans (Mx.up (c := 0) (d := 0) m1.2.2.2 g2 g3)).le (by decide) (by decide), z1⟩, ?_⟩
    try dsimp only
    rw [b_X3_put_28, P1.r0]
    simp only [Option.bind_some, va_rf_some]
    rw [C1.k h1 h2]
    simp only [Option.bind_some]
    rw [bI_ex (c_cells C1 h1 h2), if_pos (by rw [iI_lt (by omega) (by omega) (by omega) (by omega)]; exact hk'), g1, P1.k]
    simp only [Option.bind_some, va_rf_some]
    rw [bI_ex (c_columnOf C1 P1 h1 h2 (show (0:Int) ≤ k by omega) hk' h3 h4), P1.k]
    simp only [Option.bind_some]
    rw [bI_ex (c_rowOf C1 P1 h1 h2 (show (0:Int) ≤ k by omega) hk' h3 h4), H1.k]
    simp only [Option.bind_some]
    rw [bI_ex c_indexOf, i8]
    simp only [Option.bind_some, Int.toNat_natCast]
    rw [stI_at g2 (by decide) (by omega) (by omega) (by decide)]
    simp only [Option.bind_some, iI_add]
    (try rfl)) hs ⟨H, C, P, A, Mx.refl hF, rfl⟩
  have zn : hs1.2.1 = hs.2.1 := by rw [z1]
  -- the piece's object
  have hF1 := m1.2.2.2
  have x2 : Ex 1 3 hs1 (t_up hs1.1 hs1.2.1 (true, 4, .inl [.ref q, .int (iI (s 2)), .int (iI (pts s sh r y))]), hs1.2.1 + 1, hs1.2.2 + 3) := Ex.al hF1
  have x2' : Ex 1 3 hs1 (t_al hs1 (true, 4, .inl [.null, .int (iI 0), .int (iI 0)]) 3) := Ex.al hF1
  have H2' := H1.kp (Kp.ex hF1 x2')
  have i9 := H2'.i9
  rw [sC (Nat.le_refl _) (by omega)] at i9
  have H2 := H1.kp (Kp.ex hF1 x2)
  have C2 := C1.kp (Kp.ex hF1 x2)
  have P2 := P1.kp (Kp.ex hF1 x2)
  have hne1 : ∀ {z : Nat} {e : tEnt}, hs1.1 z = some e → z ≠ hs1.2.1 := fun h => Nat.ne_of_lt (hF1.lt h)
  have A2 : PA (t_up hs1.1 hs1.2.1 (true, 4, .inl [.ref q, .int (iI (s 2)), .int (iI (pts s sh r y))])) a pa fp := by
    obtain ⟨fl, ha⟩ := H1.aa
    exact ⟨(gfR_cg (t_up_n (hne1 ha))).trans A1.1, (t_up_n (hne1 A1.2)).trans A1.2⟩
  obtain ⟨qa, fq, fl, g1, g2, g3, g4, g5, g6, g7, g8, H4⟩ := H2.wPc (Nat.le_refl 2) (b := hs1.2.1) (q := q) (sh := sh) (r := r) (x := x) (y := y) (o := s 2) (pt := pts s sh r y) (by rw [sC (Nat.le_refl _) (by omega)]; exact h40) (by rw [sC (Nat.le_refl _) (by omega)]; exact h31) t_up_s (zn ▸ hDn) P2
  have s4e : setC s sh r x y (2 + s 4) (shN sh) 4 = s 4 := sC (Nat.le_refl _) (by omega)
  rw [s4e] at g6 H4
  have u1 : (t_up (t_up hs1.1 hs1.2.1 (true, 4, .inl [.ref q, .int (iI (s 2)), .int (iI (pts s sh r y))])) qa (true, 8, .inr (32, .inr (.inr (.inr (.inr (va_up fq (s 4).toNat (some hs1.2.1)))))))) a = some (true, 2, .inl fl) := (t_up_n g8).trans g4
  have C4 := (C2.up (e := (true, 8, .inr (32, .inr (.inr (.inr (.inr (va_up fq (s 4).toNat (some hs1.2.1)))))))) g2 (by show (8:Nat) ≠ 18; decide) (fun w => by cases w)).up (e := (true, 2, .inl (fl.set 8 (.int (iI (s 4 + 1)))))) u1 (by show (2:Nat) ≠ 18; decide) (fun w => by cases w)
  have P4 := (P2.upT (e := (true, 8, .inr (32, .inr (.inr (.inr (.inr (va_up fq (s 4).toNat (some hs1.2.1)))))))) g2 (by show ((8:Nat), 33) ≠ (5, 0); decide)).upT (e := (true, 2, .inl (fl.set 8 (.int (iI (s 4 + 1)))))) u1 (by show ((2:Nat), 0) ≠ (5, 0); decide)
  have A3 := A2.up (e := (true, 8, .inr (32, .inr (.inr (.inr (.inr (va_up fq (s 4).toNat (some hs1.2.1)))))))) g2 (by show ((8:Nat), 33) ≠ (7, 3); decide) g8
  have f5 : fl[5]? = some (.ref pa) := gfR_inv A2.1 g4
  have A4 : PA (t_up (t_up (t_up hs1.1 hs1.2.1 (true, 4, .inl [.ref q, .int (iI (s 2)), .int (iI (pts s sh r y))])) qa (true, 8, .inr (32, .inr (.inr (.inr (.inr (va_up fq (s 4).toNat (some hs1.2.1)))))))) a (true, 2, .inl (fl.set 8 (.int (iI (s 4 + 1)))))) a pa fp := by
    refine ⟨gfR_at t_up_s ?_, up_tg A3.2 u1 (by show ((7:Nat), 3) ≠ (2, 0); decide)⟩
    rw [List.getElem?_set_ne (by decide)]
    exact f5
  have m4 : Mx M 1 3 hs1 (t_up (t_up (t_up hs1.1 hs1.2.1 (true, 4, .inl [.ref q, .int (iI (s 2)), .int (iI (pts s sh r y))])) qa (true, 8, .inr (32, .inr (.inr (.inr (.inr (va_up fq (s 4).toNat (some hs1.2.1)))))))) a (true, 2, .inl (fl.set 8 (.int (iI (s 4 + 1))))), hs1.2.1 + 1, hs1.2.2 + 3) := by
    have ma := (x2.mono (M' := M) (fun _ h => h.elim) (Nat.le_refl _) (Nat.le_refl _))
    have mb := ma.trans (Mx.up (c := 0) (d := 0) (e := (true, 8, .inr (32, .inr (.inr (.inr (.inr (va_up fq (s 4).toNat (some hs1.2.1)))))))) ma.2.2.2 g2 g3)
    exact mb.trans (Mx.up (c := 0) (d := 0) mb.2.2.2 u1 g7)
  have rg : ∀ p w : Int, 0 ≤ p → p ≤ 1 → 0 ≤ w → w ≤ 13 → ofS (fU (pcW (setC s sh r x y (2 + s 4) (shN sh)) (s 4).toNat sh r x y (s 2) (pts s sh r y)) 4 (s 4 + 1)) p w = ofS s p w := fun p w p1 p2 w1 w2 => by
    refine (fU_n (by unfold plI; omega)).trans ((pcW_n (by unfold plI pcI; omega)).trans ?_)
    exact sC (Nat.le_refl _) (by unfold plI; omega)
  obtain ⟨pa1, b1, su, f, k1, k2, k3, k4, k5, k6, k7⟩ := H4.wSup (Nat.le_refl 2) (p := s 2) (k := sh) ht (by omega) h1 (by omega)
  have epa : pa = pa1 := by
    have := k1.symm.trans A4.1
    cases this; rfl
  subst epa
  have eb : b = b1 := by
    have := k2.symm.trans (A4.ld ht (by omega))
    rw [hb] at this
    cases this; rfl
  subst eb
  rw [rg _ _ ht hT (by omega) (by omega)] at k5
  have H5 := k7 (ofS s (s 2) (2 + sh) - 1)
  have hab : a ≠ su := by
    obtain ⟨fl', ha⟩ := H4.aa
    exact ne_tg ha k4 (by show ((2:Nat), 0) ≠ (0, 6); decide)
  have A5 := A4.up (e := (true, 0, .inr (5, .inl (upd f sh.toNat (iI (ofS s (s 2) (2 + sh) - 1)))))) k4 (by show ((0:Nat), 6) ≠ (7, 3); decide) hab
  obtain ⟨pa1, b1, fl2, l1, l2, l3, -, l5, l6, -, l8⟩ := H5.wPl (Nat.le_refl 2) (p := s 2) ht (by omega)
  have epa : pa = pa1 := by
    have := l1.symm.trans A5.1
    cases this; rfl
  subst epa
  have eb : b = b1 := by
    have := l2.symm.trans (A5.ld ht (by omega))
    rw [hb] at this
    cases this; rfl
  subst eb
  rw [show ofS (fU (fU (pcW (setC s sh r x y (2 + s 4) (shN sh)) (s 4).toNat sh r x y (s 2) (pts s sh r y)) 4 (s 4 + 1)) (plI (s 2) (2 + sh)).toNat (ofS s (s 2) (2 + sh) - 1)) (s 2) 0 = ofS s (s 2) 0 from (ofS_fU (by unfold plI; omega)).trans (rg _ _ ht hT (by decide) (by decide))] at l5
  have H6 := l8 (ofS s (s 2) 0 + pts s sh r y)
  have m5 := m4.trans (Mx.up (c := 0) (d := 0) (e := (true, 0, .inr (5, .inl (upd f sh.toNat (iI (ofS s (s 2) (2 + sh) - 1)))))) m4.2.2.2 k4 k6)
  have m6 := m5.trans (Mx.up (c := 0) (d := 0) (e := (true, 3, .inl (fl2.set 3 (.int (iI (ofS s (s 2) 0 + pts s sh r y)))))) m5.2.2.2 l3 l6)
  obtain ⟨hs7, a7, H7, m7⟩ := c_endTurn (hs := (t_up (t_up (t_up (t_up (t_up hs1.1 hs1.2.1 (true, 4, .inl [.ref q, .int (iI (s 2)), .int (iI (pts s sh r y))])) qa (true, 8, .inr (32, .inr (.inr (.inr (.inr (va_up fq (s 4).toNat (some hs1.2.1)))))))) a (true, 2, .inl (fl.set 8 (.int (iI (s 4 + 1)))))) su (true, 0, .inr (5, .inl (upd f sh.toNat (iI (ofS s (s 2) (2 + sh) - 1)))))) b (true, 3, .inl (fl2.set 3 (.int (iI (ofS s (s 2) 0 + pts s sh r y))))), hs1.2.1 + 1, hs1.2.2 + 3)) H6 m6.2.2.2 (Nat.le_refl 2) (w := 0)
  refine ⟨hs7, ?_, ?_, (m1.trans (m6.trans m7)).le (by decide) (by decide)⟩
  · refine Eq.trans e1 ?_
    try dsimp only
    rw [b_X3_put_28, P1.r0]
    simp only [Option.bind_some, va_rf_some]
    rw [C1.k h1 h2]
    simp only [Option.bind_some]
    rw [bI_ex (c_cells C1 h1 h2), if_neg (by rw [iI_lt (by omega) (by omega) (by omega) (by omega)]; omega)]
    have g1' : gfR hs1.1 (.ref a) 2 7 = some (some qa) := by
      obtain ⟨fl', ha⟩ := H1.aa
      exact (gfR_cg (t_up_n (hne1 ha))).symm.trans g1
    have i8 := H1.i8
    rw [s4e] at i8
    rw [g1', i8]
    simp only [Option.bind_some, va_rf_some]
    rw [i9]
    simp only [Option.bind_some]
    rw [b_X10_init_0]
    rw [show (t_al hs1 (true, 4, .inl [.null, .int (iI 0), .int (iI 0)]) 3) = (t_up hs1.1 hs1.2.1 (true, 4, .inl [.null, .int (iI 0), .int (iI 0)]), hs1.2.1 + 1, hs1.2.2 + 3) from rfl]
    rw [pf_at t_up_s (Nat.le_of_ble_eq_true rfl)]
    simp only [Option.bind_some, t_up_up]
    rw [pf_at t_up_s (Nat.le_of_ble_eq_true rfl)]
    simp only [Option.bind_some, t_up_up]
    rw [pf_at t_up_s (Nat.le_of_ble_eq_true rfl)]
    simp only [Option.bind_some, t_up_up, bndV_ret, List.set_cons_zero, List.set_cons_succ]
    rw [stR_at g2 (isK_at t_up_s) h40 (by omega) (by decide)]
    simp only [Option.bind_some]
    rw [gfI_at u1 g6]
    simp only [Option.bind_some, iI_add]
    rw [pf_at u1 (by omega)]
    simp only [Option.bind_some]
    rw [k3, P4.r0]
    simp only [Option.bind_some, va_rf_some]
    rw [C4.k h1 h2]
    simp only [Option.bind_some]
    rw [bI_ex (c_ordinal (hs := (t_up (t_up (t_up hs1.1 hs1.2.1 (true, 4, .inl [.ref q, .int (iI (s 2)), .int (iI (pts s sh r y))])) qa (true, 8, .inr (32, .inr (.inr (.inr (.inr (va_up fq (s 4).toNat (some hs1.2.1)))))))) a (true, 2, .inl (fl.set 8 (.int (iI (s 4 + 1))))), hs1.2.1 + 1, hs1.2.2 + 3)) C4 h1 h2)]
    rw [ldI_at k4 (by decide) h1 (by omega) (by decide), k5]
    simp only [Option.bind_some, iI_sub]
    rw [stI_at k4 (by decide) h1 (by omega) (by decide)]
    simp only [Option.bind_some]
    rw [show t_nar 0 (iI (ofS s (s 2) (2 + sh) - 1)) = iI (ofS s (s 2) (2 + sh) - 1) from rfl, gfI_at l3 l5]
    simp only [Option.bind_some, iI_add]
    rw [pf_at l3 (fl_at l5)]
    simp only [Option.bind_some]
    rw [H6.k]
    simp only [Option.bind_some]
    rw [bV_ex a7]
    rfl
  · have e2 : fU (fU (fU (pcW (setC s sh r x y (2 + s 4) (shN sh)) (s 4).toNat sh r x y (s 2) (pts s sh r y)) 4 (s 4 + 1)) (plI (s 2) (2 + sh)).toNat (ofS s (s 2) (2 + sh) - 1)) (plI (s 2) 0).toNat (ofS s (s 2) 0 + pts s sh r y) 2 = s 2 := by
      refine (fU_n (by unfold plI; omega)).trans ((fU_n (by unfold plI; omega)).trans ((fU_n (by decide)).trans ((pcW_n (by unfold pcI; omega)).trans (sC (Nat.le_refl _) (by omega)))))
    rw [e2, fU_comm (by decide), fU_comm (i := (plI (s 2) (2 + sh)).toNat) (by unfold plI; omega)] at H7
    have ep : pcW (setC s sh r x y (2 + s 4) (shN sh)) (s 4).toNat sh r x y (s 2) (pts s sh r y) = fU (fU (fU (fU (fU (fU (setC s sh r x y (2 + s 4) (shN sh)) (225 + s 4 * 6).toNat sh) (225 + s 4 * 6 + 1).toNat r) (225 + s 4 * 6 + 2).toNat x) (225 + s 4 * 6 + 3).toNat y) (225 + s 4 * 6 + 4).toNat (s 2)) (225 + s 4 * 6 + 5).toNat (pts s sh r y) := by
      unfold pcW pcI
      rw [show 225 + (s 4).toNat * 6 + 0 = (225 + s 4 * 6).toNat by omega, show 225 + (s 4).toNat * 6 + 1 = (225 + s 4 * 6 + 1).toNat by omega, show 225 + (s 4).toNat * 6 + 2 = (225 + s 4 * 6 + 2).toNat by omega, show 225 + (s 4).toNat * 6 + 3 = (225 + s 4 * 6 + 3).toNat by omega, show 225 + (s 4).toNat * 6 + 4 = (225 + s 4 * 6 + 4).toNat by omega, show 225 + (s 4).toNat * 6 + 5 = (225 + s 4 * 6 + 5).toNat by omega]
    rw [ep] at H7
    exact H7
theorem c_put (H : GR G D M hs.1 a s 2) (C : CH G D hs.1) (P : PL G D hs.1 q sh r x y) (hF : Fi hs) (hDn : D hs.2.1) (hD : Dm s) (hB : RB s) (hT : s 2 ≤ 1) (h31 : mf s sh r x y = 0 → s 4 ≤ 31) (h1 : 0 ≤ sh) (h2 : sh ≤ 4) (h3 : 0 ≤ r) (h4 : r ≤ 3) (h5 : 0 ≤ x ∧ x ≤ 7) (h6 : 0 ≤ y ∧ y ≤ 7) :
    if mayP s sh r x y = true then ∃ hs', t_Ev (t_pg G) t_hd Y_X3_put 0 ([some (.ref a), some (.ref q), none, none, none], [], hs) = rI (pts s sh r y) hs' ∧ GR G D M hs'.1 a (plc s sh r x y) 2 ∧ Mx M 1 3 hs hs'
    else t_Ev (t_pg G) t_hd Y_X3_put 0 ([some (.ref a), some (.ref q), none, none, none], [], hs) = tTh 14 hs := by
  have ht := (hB 2).1
  have hcp := c_canPlace H C P hD hB hT h1 h2 h3 h4 h5 h6
  cases hm : mayP s sh r x y with
  | false =>
    rw [if_neg (by decide), b_X3_put_0, H.k]
    simp only [Option.bind_some]
    rw [bB_ex hcp, hm, H.k]
    simp only [Option.bind_some]
    rw [c_check]
    rfl
  | true =>
    rw [if_pos rfl]
    have hm0 : mf s sh r x y = 0 := by
      unfold mayP at hm
      simp only [Bool.and_eq_true, decide_eq_true_eq] at hm
      exact hm.2.2
    obtain ⟨pa, fp, A, hp⟩ := H.pa
    obtain ⟨b, hb, -⟩ := hp (s 2).toNat (by omega)
    obtain ⟨hs', e, H', m⟩ := c_put28 H C P hF hDn hB hT (h31 hm0) h1 h2 h3 h4 (fun k hk => (mf_in hD hm0 k hk).2) A hb
    refine ⟨hs', ?_, H', m⟩
    rw [b_X3_put_0, H.k]
    simp only [Option.bind_some]
    rw [bB_ex hcp, hm, H.k]
    simp only [Option.bind_some]
    rw [c_check, if_pos rfl]
    simp only [bV_rV, H.k, Option.bind_some]
    rw [bI_ex (c_pointsOf H C P hD hB h1 h2 h3 h4 h5 h6), A.1, H.i9]
    simp only [Option.bind_some, va_rf_some]
    rw [A.ld ht (by omega), hb]
    simp only [Option.bind_some, va_rf_some]
    exact e
end PT
