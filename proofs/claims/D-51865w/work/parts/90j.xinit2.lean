/-! ===== the component made: its first game ===== -/
def sA : tRow := fU (fU (fU (fU (row0 5 4) 37 1) 57 1) 106 1) 179 1
def sL : tRow := fun j => if j < 5 ∨ 33 ≤ j then sA j else layT j
theorem sL_T : ∀ j, j < 417 → sL j = layT j := by decide +kernel
section XI2
variable {G : tG} {hs : tHS}
theorem x_init (hF : Fi hs) (S : SV G (LL hs) hs.1 (G.1 10)) (an : ST (LL hs) hs.1 (G.1 21) 3 (fun j => ofS sL 0 (8 + (j : Nat)))) (bo : ST (LL hs) hs.1 (G.1 29) 3 (fun j => ofS sL 1 (8 + (j : Nat)))) : ∃ hs' fv, t_Ev (t_pg G) t_hd Y_X1_init 0 ([some (.ref hs.2.1)], [], (t_al hs (true, 0, .inl [.null, .null, .null, .int (iI 0), .int (iI 0), .int (iI 0), .null, .null, .null]) 9)) = rV hs' ∧ GR G (fun _ => True) (fun q => hs.2.1 + 6 ≤ q) hs'.1 (hs.2.1 + 6) sL 2 ∧ (∀ j, j < 5 → fv j = some (G.1 j)) ∧ hs'.1 hs.2.1 = some (true, 0, .inl [.ref (hs.2.1+1), .ref (hs.2.1+6), .ref (hs.2.1+2), .int (iI 0), .int (iI 0), .int (iI (-1)), .ref (G.1 13), .ref (hs.2.1+3), .ref (hs.2.1+5)]) ∧ (∀ q, hs.2.1 < q → q < hs.2.1 + 6 → hs'.1 q = hX hs.2.1 G fv hs.1 q) ∧ (∀ q, q < hs.2.1 → hs'.1 q = hs.1 q) ∧ Fi hs' ∧ (hs.2.1 + 11 ≤ hs'.2.1 ∧ hs'.2.1 ≤ hs.2.1 + 40) ∧ hs'.2.2 ≤ hs.2.2 + 1000 := by
  obtain ⟨fv, ef, e0⟩ := x_init0 hF S
  obtain ⟨h0, n0, z0⟩ := hs
  dsimp only at e0 ⊢
  have hlo : ∀ q, q < n0 → hX n0 G fv h0 q = h0 q := fun q hq => by
    unfold hX
    rw [if_neg (by omega), if_neg (by omega), if_neg (by omega), if_neg (by omega), if_neg (by omega), if_neg (by omega), if_neg (by omega)]
  have F1 : Fi (hX n0 G fv h0, n0 + 7, z0 + 647) := fun q hq => by
    have hq' : n0 + 7 ≤ q := hq
    show hX n0 G fv h0 q = none
    unfold hX
    rw [if_neg (by omega), if_neg (by omega), if_neg (by omega), if_neg (by omega), if_neg (by omega), if_neg (by omega), if_neg (by omega)]
    exact hF q (by show n0 ≤ q; omega)
  obtain ⟨M, hM⟩ : ∃ M : Nat → Prop, M = fun q => n0 + 6 ≤ q := ⟨_, rfl⟩
  have M1 : ∀ q, n0 + 6 ≤ q → M q := fun q h => by rw [hM]; exact h
  have M2 : ∀ q, q < n0 + 6 → ¬ M q := fun q h => by rw [hM]; exact Nat.not_le.mpr h
  obtain ⟨H2, e2, g2, m2, z2⟩ := c_gameInit (G := G) (hs := (hX n0 G fv h0, n0 + 7, z0 + 647)) (g := n0 + 6) (sv := n0 + 1) (M := M) (D := fun _ => True) F1 (by simp [hX]) (M1 _ (Nat.le_refl _)) (fun q hq => M1 q (by have hq' : n0 + 7 ≤ q := hq; omega)) ⟨trivial, true, fv, by simp [hX], ef⟩ (c_0 := 5) (w := 4)
  have x2 : H2.1 n0 = some (true, 0, .inl [.ref (n0+1), .null, .ref (n0+2), .int (iI 0), .int (iI 0), .int (iI (-1)), .ref (G.1 13), .ref (n0+3), .ref (n0+5)]) := (m2.1 n0 (by show n0 < n0 + 7; omega) (M2 n0 (by omega))).trans (by simp [hX])
  obtain ⟨X, hX'⟩ : ∃ X : tEnt, X = (true, 0, .inl [.ref (n0+1), .ref (n0+6), .ref (n0+2), .int (iI 0), .int (iI 0), .int (iI (-1)), .ref (G.1 13), .ref (n0+3), .ref (n0+5)]) := ⟨_, rfl⟩
  have m3 : Mx (fun q => q = n0) 0 0 H2 (t_up H2.1 n0 X, H2.2) := Mx.up m2.2.2.2 x2 rfl
  have g3 : GR G (fun _ => True) M (t_up H2.1 n0 X, H2.2).1 (n0 + 6) (row0 5 4) 0 := g2.kp (Kp.up x2 rfl)
  have gx : ∀ {h : tAH}, h n0 = some X → gfR h (.ref n0) 0 1 = some (some (n0 + 6)) := fun e => by rw [hX'] at e; exact gfR_at e rfl
  have x3 : (t_up H2.1 n0 X, H2.2).1 n0 = some X := t_up_s
  have lt3 : n0 < (t_up H2.1 n0 X, H2.2).2.1 := m3.2.2.2.lt x3
  obtain ⟨H4, e4, g4, m4⟩ := c_block g3 m3.2.2.2 (by decide) (x := 4) (y := 0) (by decide) (by decide)
  have x4 : H4.1 n0 = some X := (m4.1 n0 lt3 (M2 n0 (by omega))).trans x3
  have lt4 := m4.2.2.2.lt x4
  obtain ⟨H5, e5, g5, m5⟩ := c_block g4 m4.2.2.2 (by decide) (x := 0) (y := 3) (by decide) (by decide)
  have x5 : H5.1 n0 = some X := (m5.1 n0 lt4 (M2 n0 (by omega))).trans x4
  have lt5 := m5.2.2.2.lt x5
  obtain ⟨H6, e6, g6, m6⟩ := c_setStrap g5 m5.2.2.2 (by decide) (x := 1) (y := 1) (d := 0) (by decide) (by decide) (by decide)
  have x6 : H6.1 n0 = some X := (m6.1 n0 lt5 (M2 n0 (by omega))).trans x5
  have lt6 := m6.2.2.2.lt x6
  obtain ⟨H7, e7, g7, m7⟩ := c_setStrap g6 m6.2.2.2 (by decide) (x := 2) (y := 2) (d := 1) (by decide) (by decide) (by decide)
  have x7 : H7.1 n0 = some X := (m7.1 n0 lt6 (M2 n0 (by omega))).trans x6
  have lt7 := m7.2.2.2.lt x7
  have g7' : GR G (fun _ => True) M H7.1 (n0 + 6) sA 0 := g7
  have m27 : Mx (fun q => q = n0 ∨ M q) 4 226 (hX n0 G fv h0, n0 + 7, z0 + 647) H7 := ((((m2.mono (fun q h => Or.inr h) (Nat.le_refl _) (Nat.le_refl _)).trans (m3.mono (fun q h => Or.inl h) (Nat.le_refl _) (Nat.le_refl _))).trans (m4.mono (fun q h => Or.inr h) (Nat.le_refl _) (Nat.le_refl _))).trans (m5.mono (fun q h => Or.inr h) (Nat.le_refl _) (Nat.le_refl _)) |>.trans (m6.mono (fun q h => Or.inr h) (Nat.le_refl _) (Nat.le_refl _))).trans (m7.mono (fun q h => Or.inr h) (Nat.le_refl _) (Nat.le_refl _))
  sorry
end XI2
