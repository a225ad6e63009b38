/-! ===== the component made: its first game ===== -/
def sA : tRow := fU (fU (fU (fU (row0 5 4) 37 1) 57 1) 106 1) 179 1
def sL : tRow := fun j => if j < 5 ∨ 33 ≤ j then sA j else layT j
theorem sL_T : ∀ j, j < 417 → sL j = layT j := by decide +kernel
section XI2
variable {G : tG} {hs : tHS}
theorem x_init (hF : Fi hs) (S : SV G (LL hs) hs.1 (G.1 10)) (an : ST (LL hs) hs.1 (G.1 21) 3 (fun j => ofS sL 0 (8 + (j : Nat)))) (bo : ST (LL hs) hs.1 (G.1 29) 3 (fun j => ofS sL 1 (8 + (j : Nat)))) : ∃ hs' fv, t_Ev (t_pg G) t_hd Y_X1_init 0 ([some (.ref hs.2.1)], [], (t_al hs (true, 0, .inl [.null, .null, .null, .int (iI 0), .int (iI 0), .int (iI 0), .null, .null, .null]) 9)) = rV hs' ∧ GR G (fun _ => True) (fun q => hs.2.1 + 6 ≤ q) hs'.1 (hs.2.1 + 6) sL 2 ∧ (∀ j, j < 5 → fv j = some (G.1 j)) ∧ hs'.1 hs.2.1 = some (true, 0, .inl [.ref (hs.2.1+1), .ref (hs.2.1+6), .ref (hs.2.1+2), .int (iI 0), .int (iI 0), .int (iI (-1)), .ref (G.1 13), .ref (hs.2.1+3), .ref (hs.2.1+5)]) ∧ (∀ q, hs.2.1 < q → q < hs.2.1 + 6 → hs'.1 q = hX hs.2.1 G fv hs.1 q) ∧ (∀ q, q < hs.2.1 → hs'.1 q = hs.1 q) ∧ Fi hs' ∧ (hs.2.1 + 11 ≤ hs'.2.1 ∧ hs'.2.1 ≤ hs.2.1 + 40) ∧ hs'.2.2 ≤ hs.2.2 + 1000 := by
  obtain ⟨fv, ef, e0⟩ := x_init0 hF S
  obtain ⟨h0, n0, z0⟩ := hs
  dsimp only at e0 ⊢
  have hlo : ∀ q, q < n0 → hX n0 G fv h0 q = h0 q := fun q hq => by
    unfold hX
    rw [if_neg (by omega), if_neg (by omega), if_neg (by omega), if_neg (by omega), if_neg (by omega), if_neg (by omega), if_neg (by omega)]
  have F1 : Fi (hX n0 G fv h0, n0 + 7, z0 + 647) := fun q hq => by
    have hq' : n0 + 7 ≤ q := hq
    show hX n0 G fv h0 q = none
    unfold hX
    rw [if_neg (by omega), if_neg (by omega), if_neg (by omega), if_neg (by omega), if_neg (by omega), if_neg (by omega), if_neg (by omega)]
    exact hF q (by show n0 ≤ q; omega)
  obtain ⟨M, hM⟩ : ∃ M : Nat → Prop, M = fun q => n0 + 6 ≤ q := ⟨_, rfl⟩
  have M1 : ∀ q, n0 + 6 ≤ q → M q := fun q h => by rw [hM]; exact h
  have M2 : ∀ q, q < n0 + 6 → ¬ M q := fun q h => by rw [hM]; exact Nat.not_le.mpr h
  obtain ⟨H2, e2, g2, m2, z2⟩ := c_gameInit (G := G) (hs := (hX n0 G fv h0, n0 + 7, z0 + 647)) (g := n0 + 6) (sv := n0 + 1) (M := M) (D := fun _ => True) F1 (by simp [hX]) (M1 _ (Nat.le_refl _)) (fun q hq => M1 q (by have hq' : n0 + 7 ≤ q := hq; omega)) ⟨trivial, true, fv, by simp [hX], ef⟩ (c_0 := 5) (w := 4)
  have x2 : H2.1 n0 = some (true, 0, .inl [.ref (n0+1), .null, .ref (n0+2), .int (iI 0), .int (iI 0), .int (iI (-1)), .ref (G.1 13), .ref (n0+3), .ref (n0+5)]) := (m2.1 n0 (by show n0 < n0 + 7; omega) (M2 n0 (by omega))).trans (by simp [hX])
  obtain ⟨X, hX'⟩ : ∃ X : tEnt, X = (true, 0, .inl [.ref (n0+1), .ref (n0+6), .ref (n0+2), .int (iI 0), .int (iI 0), .int (iI (-1)), .ref (G.1 13), .ref (n0+3), .ref (n0+5)]) := ⟨_, rfl⟩
  have m3 : Mx (fun q => q = n0) 0 0 H2 (t_up H2.1 n0 X, H2.2) := Mx.up m2.2.2.2 x2 rfl
  have g3 : GR G (fun _ => True) M (t_up H2.1 n0 X, H2.2).1 (n0 + 6) (row0 5 4) 0 := g2.kp (Kp.up x2 rfl)
  have gx : ∀ {h : tAH}, h n0 = some X → gfR h (.ref n0) 0 1 = some (some (n0 + 6)) := fun e => by rw [hX'] at e; exact gfR_at e rfl
  have x3 : (t_up H2.1 n0 X, H2.2).1 n0 = some X := t_up_s
  have lt3 : n0 < (t_up H2.1 n0 X, H2.2).2.1 := m3.2.2.2.lt x3
  obtain ⟨H4, e4, g4, m4⟩ := c_block g3 m3.2.2.2 (by decide) (x := 4) (y := 0) (by decide) (by decide)
  have x4 : H4.1 n0 = some X := (m4.1 n0 lt3 (M2 n0 (by omega))).trans x3
  have lt4 := m4.2.2.2.lt x4
  obtain ⟨H5, e5, g5, m5⟩ := c_block g4 m4.2.2.2 (by decide) (x := 0) (y := 3) (by decide) (by decide)
  have x5 : H5.1 n0 = some X := (m5.1 n0 lt4 (M2 n0 (by omega))).trans x4
  have lt5 := m5.2.2.2.lt x5
  obtain ⟨H6, e6, g6, m6⟩ := c_setStrap g5 m5.2.2.2 (by decide) (x := 1) (y := 1) (d := 0) (by decide) (by decide) (by decide)
  have x6 : H6.1 n0 = some X := (m6.1 n0 lt5 (M2 n0 (by omega))).trans x5
  have lt6 := m6.2.2.2.lt x6
  obtain ⟨H7, e7, g7, m7⟩ := c_setStrap g6 m6.2.2.2 (by decide) (x := 2) (y := 2) (d := 1) (by decide) (by decide) (by decide)
  have x7 : H7.1 n0 = some X := (m7.1 n0 lt6 (M2 n0 (by omega))).trans x6
  have lt7 := m7.2.2.2.lt x7
  have g7' : GR G (fun _ => True) M H7.1 (n0 + 6) sA 0 := g7
  have m27 : Mx (fun q => q = n0 ∨ M q) 4 226 (hX n0 G fv h0, n0 + 7, z0 + 647) H7 := ((((m2.mono (fun q h => Or.inr h) (Nat.le_refl _) (Nat.le_refl _)).trans (m3.mono (fun q h => Or.inl h) (Nat.le_refl _) (Nat.le_refl _))).trans (m4.mono (fun q h => Or.inr h) (Nat.le_refl _) (Nat.le_refl _))).trans (m5.mono (fun q h => Or.inr h) (Nat.le_refl _) (Nat.le_refl _)) |>.trans (m6.mono (fun q h => Or.inr h) (Nat.le_refl _) (Nat.le_refl _))).trans (m7.mono (fun q h => Or.inr h) (Nat.le_refl _) (Nat.le_refl _))
  have pf : pfV H2.1 (.ref n0) 0 1 (.ref (n0 + 6)) = some (t_up H2.1 n0 X) := by
    rw [pf_at x2 (Nat.le_of_ble_eq_true rfl), hX']
    rfl
  have z7 : n0 + 7 ≤ H7.2.1 := m27.2.1.1
  have stI5 : ∀ (H : tHS) (a0 a1 a2 a3 a4 : Int32), ∃ f : Nat → Int32, (∀ (K : tAH → Option tRS), ((stI ((t_al H (t_arr0 0 5) 5).1) (.ref H.2.1) (iI 0) 0 0 a0).bind fun h_26 => (stI h_26 (.ref H.2.1) (iI 1) 0 0 a1).bind fun h_27 => (stI h_27 (.ref H.2.1) (iI 2) 0 0 a2).bind fun h_28 => (stI h_28 (.ref H.2.1) (iI 3) 0 0 a3).bind fun h_29 => (stI h_29 (.ref H.2.1) (iI 4) 0 0 a4).bind K) = K (t_up H.1 H.2.1 (true, 0, .inr (5, .inl f)))) ∧ f 0 = a0 ∧ f 1 = a1 ∧ f 2 = a2 ∧ f 3 = a3 ∧ f 4 = a4 := fun H a0 a1 a2 a3 a4 => by
    refine ⟨upd (upd (upd (upd (upd (fun _ => 0) 0 a0) 1 a1) 2 a2) 3 a3) 4 a4, fun K => ?_, rfl, rfl, rfl, rfl, rfl⟩
    rw [al_1, show t_arr0 0 5 = (true, 0, .inr (5, .inl fun _ => 0)) from rfl, stI_at (f := fun _ => 0) t_up_s (Or.inl rfl) (by decide) (by decide) (by decide), Option.bind_some, t_up_up, stI_at t_up_s (Or.inl rfl) (by decide) (by decide) (by decide), Option.bind_some, t_up_up, stI_at t_up_s (Or.inl rfl) (by decide) (by decide) (by decide), Option.bind_some, t_up_up, stI_at t_up_s (Or.inl rfl) (by decide) (by decide) (by decide), Option.bind_some, t_up_up, stI_at t_up_s (Or.inl rfl) (by decide) (by decide) (by decide), Option.bind_some, t_up_up]
    rfl
  obtain ⟨f1, k1, f10, f11, f12, f13, f14⟩ := stI5 H7 (iI 2) (iI 2) (iI 1) (iI 1) (iI 1)
  obtain ⟨H9, h9⟩ : ∃ H9, H9 = t_al H7 (true, 0, .inr (5, .inl f1)) 5 := ⟨_, rfl⟩
  have m9 : Ex 1 5 H7 H9 := by rw [h9]; exact Ex.al m7.2.2.2
  have lo9 : ∀ q, q < n0 → H9.1 q = h0 q := fun q hq => (m9.1 q (by omega) (fun z => z)).trans ((m27.1 q (by show q < n0 + 7; omega) (fun z => by rcases z with z | z; omega; exact M2 q (by omega) z)).trans (hlo q hq))
  have x9 : H9.1 n0 = some X := (m9.1 n0 lt7 (fun z => z)).trans x7
  have s9 : H9.1 H7.2.1 = some (true, 0, .inr (5, .inl f1)) := by rw [h9]; exact t_up_s
  have hr : ∀ j, j < 5 + 0 * 14 ∨ 33 ≤ j → sL j = sA j := fun j hj => if_pos (by omega)
  obtain ⟨H10, e10, g10, m10⟩ := c_addPlayer (G := G) (D := fun _ => True) (M := M) (hB := H7) (hs := H9) (np := 0) (s := sA) (s' := sL) (nm := G.1 21) (su := H7.2.1) (f := f1) (st := 1) (by decide) m7.2.2.2 g7' (Kp.ex m7.2.2.2 m9) m9.2.2.2 m9.2.1.1 (by decide +kernel) hr (M1 _ (by have := m9.2.1.1; omega)) (Nat.le_refl _) (M1 _ (by omega)) s9 (fun k hk => by
    rcases (show k = 0 ∨ k = 1 ∨ k = 2 ∨ k = 3 ∨ k = 4 by omega) with rfl | rfl | rfl | rfl | rfl
    · rw [f10]; rfl
    · rw [f11]; rfl
    · rw [f12]; rfl
    · rw [f13]; rfl
    · rw [f14]; rfl) (by decide +kernel) (by decide +kernel) (by decide +kernel) (by
    obtain ⟨d, b, hv, hz, vq, q1, d1, b', f, q2, q3⟩ := an
    rw [show (ofS sL ((0 : Nat) : Int) 7).toNat = 3 by decide +kernel]
    exact ⟨trivial, b, hv, hz, vq, (lo9 _ d).trans q1, trivial, b', f, (lo9 _ d1).trans q2, q3⟩)
  have x10 : H10.1 n0 = some X := (m10.1 n0 (m9.2.2.2.lt x9) (M2 n0 (by omega))).trans x9
  have lt10 := m10.2.2.2.lt x10
  have z9 := m9.2.1.1
  have z10 := m10.2.1.1
  obtain ⟨f2, k2, f20, f21, f22, f23, f24⟩ := stI5 H10 (iI 1) (iI 3) (iI 1) (iI 0) (iI 1)
  obtain ⟨H11, h11⟩ : ∃ H11, H11 = t_al H10 (true, 0, .inr (5, .inl f2)) 5 := ⟨_, rfl⟩
  have m11 : Ex 1 5 H10 H11 := by rw [h11]; exact Ex.al m10.2.2.2
  have lo11 : ∀ q, q < n0 → H11.1 q = h0 q := fun q hq => (m11.1 q (by omega) (fun z => z)).trans ((m10.1 q (by omega) (M2 q (by omega))).trans (lo9 q hq))
  have x11 : H11.1 n0 = some X := (m11.1 n0 lt10 (fun z => z)).trans x10
  have s11 : H11.1 H10.2.1 = some (true, 0, .inr (5, .inl f2)) := by rw [h11]; exact t_up_s
  obtain ⟨H12, e12, g12, m12⟩ := c_addPlayer (G := G) (D := fun _ => True) (M := M) (hB := H10) (hs := H11) (np := 1) (s := sL) (s' := sL) (nm := G.1 29) (su := H10.2.1) (f := f2) (st := 2) (by decide) m10.2.2.2 g10 (Kp.ex m10.2.2.2 m11) m11.2.2.2 m11.2.1.1 (by decide +kernel) (fun _ _ => rfl) (M1 _ (by have := m11.2.1.1; omega)) (Nat.le_refl _) (M1 _ (by omega)) s11 (fun k hk => by
    rcases (show k = 0 ∨ k = 1 ∨ k = 2 ∨ k = 3 ∨ k = 4 by omega) with rfl | rfl | rfl | rfl | rfl
    · rw [f20]; rfl
    · rw [f21]; rfl
    · rw [f22]; rfl
    · rw [f23]; rfl
    · rw [f24]; rfl) (by decide +kernel) (by decide +kernel) (by decide +kernel) (by
    obtain ⟨d, b, hv, hz, vq, q1, d1, b', f, q2, q3⟩ := bo
    rw [show (ofS sL ((1 : Nat) : Int) 7).toNat = 3 by decide +kernel]
    exact ⟨trivial, b, hv, hz, vq, (lo11 _ d).trans q1, trivial, b', f, (lo11 _ d1).trans q2, q3⟩)
  have x12 : H12.1 n0 = some X := (m12.1 n0 (m11.2.2.2.lt x11) (M2 n0 (by omega))).trans x11
  have z11 := m11.2.1.1
  have z12 := m12.2.1
  have lo12 : ∀ q, q < n0 → H12.1 q = h0 q := fun q hq => (m12.1 q (by omega) (M2 q (by omega))).trans (lo11 q hq)
  have mid : ∀ q, n0 < q → q < n0 + 6 → H12.1 q = hX n0 G fv h0 q := fun q h1 h2 => by
    refine (m12.1 q (by omega) (M2 q h2)).trans ((m11.1 q (by omega) (fun z => z)).trans ((m10.1 q (by omega) (M2 q h2)).trans ((m9.1 q (by omega) (fun z => z)).trans (m27.1 q (by show q < n0 + 7; omega) (fun z => ?_)))))
    rcases z with z | z
    · omega
    · exact M2 q h2 z
  have u7 := m27.2.1.2
  have v7 := m27.2.2.1.2
  dsimp only at u7 v7
  have u9 := m9.2.1.2
  have v9 := m9.2.2.1.2
  have u10 := m10.2.1.2
  have v10 := m10.2.2.1.2
  have u11 := m11.2.1.2
  have v11 := m11.2.2.1.2
  have u12 := m12.2.1.2
  have v12 := m12.2.2.1.2
  have z22 : H2.2.1 = n0 + 11 := by rw [z2]
  have y4 := m4.2.1.1
  have y5 := m5.2.1.1
  have y6 := m6.2.1.1
  have y7 := m7.2.1.1
  dsimp only at y4
  refine ⟨H12, fv, ?_, by rw [← hM]; exact g12, ef, by rw [x12, hX'], mid, lo12, m12.2.2.2, by omega, by omega⟩
  rw [e0, e2, bV_rV, pf, Option.bind_some, gx x3, Option.bind_some, va_rf_some, g3.k, Option.bind_some, e4, bV_rV, gx x4, Option.bind_some, va_rf_some, g4.k, Option.bind_some, e5, bV_rV, gx x5, Option.bind_some, va_rf_some, g5.k, Option.bind_some, e6, bV_rV, gx x6, Option.bind_some, va_rf_some, g6.k, Option.bind_some, e7, bV_rV, gx x7, Option.bind_some, k1]
  have b9 : t_up H7.1 H7.2.1 (true, 0, .inr (5, .inl f1)) = H9.1 := by rw [h9]; rfl
  have c9 : (t_al H7 (t_arr0 0 5) 5).2 = H9.2 := by rw [h9]; rfl
  have b11 : t_up H10.1 H10.2.1 (true, 0, .inr (5, .inl f2)) = H11.1 := by rw [h11]; rfl
  have c11 : (t_al H10 (t_arr0 0 5) 5).2 = H11.2 := by rw [h11]; rfl
  have g9 := g7'.kp (Kp.ex (T := tgG) m7.2.2.2 m9)
  have g11 := g10.kp (Kp.ex (T := tgG) m10.2.2.2 m11)
  rw [b9, c9, va_rf_some, g9.k, Option.bind_some, show (H9.1, H9.2) = H9 from rfl, e10, bV_rV, gx x10, Option.bind_some, k2, b11, c11, va_rf_some, g11.k, Option.bind_some, show (H11.1, H11.2) = H11 from rfl, e12, bV_rV]
  rfl
end XI2
