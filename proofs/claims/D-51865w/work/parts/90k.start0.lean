/-! ===== the law from its start ===== -/
abbrev KW (G : tG) (hA : tHS) : Prop := (SV G (LL hA) hA.1 (G.1 10)) ∧ (ST (LL hA) hA.1 (G.1 21) 3 (fun j => ofS sL 0 (8 + (j : Nat)))) ∧ (ST (LL hA) hA.1 (G.1 29) 3 (fun j => ofS sL 1 (8 + (j : Nat)))) ∧ (WD (LL hA) hA.1 (G.1 53) wLay)
theorem KW.sv {G : tG} {hA : tHS} (zz : KW G hA) : SV G (LL hA) hA.1 (G.1 10) := zz.1
theorem KW.an {G : tG} {hA : tHS} (zz : KW G hA) : ST (LL hA) hA.1 (G.1 21) 3 (fun j => ofS sL 0 (8 + (j : Nat))) := zz.2.1
theorem KW.bo {G : tG} {hA : tHS} (zz : KW G hA) : ST (LL hA) hA.1 (G.1 29) 3 (fun j => ofS sL 1 (8 + (j : Nat))) := zz.2.2.1
theorem KW.ly {G : tG} {hA : tHS} (zz : KW G hA) : WD (LL hA) hA.1 (G.1 53) wLay := zz.2.2.2
section ST0
variable {G : tG} {hA : tHS} {sa len : Nat} {f : Nat → Int32}
theorem law_start (hF : Fi hA) (K : KV G hA sa len f) (W : KW G hA) {v5 v6 v7 v8 u1 u2 u3 u4 : Option Value} : ∃ x m oa hs fi ar, t_Ev (t_pg G) t_hd Y_L_law 0 ([some (.ref sa), u1, u2, u3, u4, v5, v6, v7, v8], [], hA) = t_Ev (t_pg G) t_hd Y_L_law 23 ([some (.ref sa), some (.ref x), some (.ref m), some (.ref oa), some (.int (iI 0)), v5, v6, v7, v8], [], hs) ∧ JV G hA x m oa hs fi ar ∧ hs.2.1 ≤ hA.2.1 + 60 ∧ hs.2.2 ≤ hA.2.2 + 8000 := by
  obtain ⟨H, fv, e1, g1, ef, xc, mid, lo, F1, ⟨z1, z2⟩, z3⟩ := x_init hF W.sv W.an W.bo
  have lt : ∀ q, q < hA.2.1 → q < H.2.1 := fun q h => by omega
  have cw : CWd G (LL hA) H.1 := K.cw.on fun q hq => lo q hq
  have wly : WD (LL hA) H.1 (G.1 53) wLay := W.ly.on fun q hq => lo q hq
  obtain ⟨fi, ar, e2, md, ⟨h6, h13, h14, h15, h16⟩, h0, h5⟩ := m_lays (G := G) (m := H.2.1) (g := H.1) (z := (H.2.1 + 12, H.2.2 + 6223)) (cw.wds fun q hq => Or.inl (lt q hq)) wly
  obtain ⟨h3, hh⟩ : ∃ h3, h3 = t_al (hM H.2.1 fi ar H.1, H.2.1 + 12, H.2.2 + 6223) (t_arr0 3 1) 1 := ⟨_, rfl⟩
  have keep : ∀ q, q < H.2.1 → h3.1 q = H.1 q := fun q hq => by
    rw [hh]
    exact (t_up_n (by show q ≠ H.2.1 + 12; omega)).trans (hM_o (Or.inl hq))
  have c1 : H.1 (hA.2.1 + 1) = some (true, 4, .inr (5, rfs fv)) := (mid _ (by omega) (by omega)).trans (by simp [hX])
  have c2 : H.1 (hA.2.1 + 2) = some (true, 2, .inr (600, .inl fun _ => 0)) := (mid _ (by omega) (by omega)).trans (by simp [hX])
  have c3 : H.1 (hA.2.1 + 3) = some (true, 9, .inl [.ref (hA.2.1+4), .int (iI 0), .int (iI 0)]) := (mid _ (by omega) (by omega)).trans (by simp [hX])
  have c4 : H.1 (hA.2.1 + 4) = some (true, 5, .inr (17, rfs fun _ => none)) := (mid _ (by omega) (by omega)).trans (by simp [hX])
  have c5 : H.1 (hA.2.1 + 5) = some (true, 6, .inr (2, rfs fun _ => none)) := (mid _ (by omega) (by omega)).trans (by simp [hX])
  have gm : GR G (DD H.2.1) (DD H.2.1) h3.1 (hA.2.1 + 6) (ar 0) 2 := by
    have ga := g1.dm (D' := fun q => q < H.2.1) (M' := fun q => q < H.2.1) (fun q e _ h => F1.lt h) (fun q e _ h => F1.lt h)
    have gb := ga.on (h' := h3.1) (fun q hq => keep q hq) (fun q h => h)
    have gc := gb.dm (D' := DD H.2.1) (M' := DD H.2.1) (fun q e h _ => Or.inl h) (fun q e h _ => Or.inl h)
    exact gc.cgR (Nat.le_refl 2) (by decide +kernel) fun j hj => (h0 j hj).trans (sL_T j hj).symm
  have ou : ST (DD H.2.1) h3.1 (G.1 13) (fi 14).toNat (fun j => ar 9 j) := by
    obtain ⟨⟨d, b, hv, hz, vq, q1, d1, b', f', q2, q3⟩, -⟩ := K.w0
    rw [h14]
    exact ⟨Or.inl (lt _ d), b, hv, hz, vq, (keep _ (lt _ d)).trans ((lo _ d).trans q1), Or.inl (lt _ d1), b', f', (keep _ (lt _ d1)).trans ((lo _ d1).trans q2), fun j hj => absurd hj (Nat.not_lt_zero j)⟩
  have X : XC G (DD H.2.1) (NN hA H.2.1) h3.1 hA.2.1 (hA.2.1+1) (hA.2.1+6) (hA.2.1+2) (G.1 13) (hA.2.1+3) (hA.2.1+5) (hA.2.1+4) 0 (fun _ => 0) (fun _ => none) fi ar := by
    refine ⟨?_, ⟨Or.inl (by omega), true, fv, (keep _ (by omega)).trans c1, ef⟩, gm, ⟨fun _ => 0, (keep _ (by omega)).trans c2, fun j hj => by rw [h13] at hj; omega⟩, ou, ⟨?_, ⟨fun _ => none, (keep _ (by omega)).trans c4, fun k hk => by rw [h6] at hk; exact absurd hk (Nat.not_lt_zero k)⟩, by decide, by rw [h6]; decide⟩, fun k hk => by rw [h6] at hk; exact absurd hk (Nat.not_lt_zero k), (keep _ (by omega)).trans c5, fun k _ => ⟨fun e => by rw [h5] at e; exact absurd e (by decide), fun _ => rfl⟩, ⟨Nat.le_refl _, by omega⟩, ⟨by omega, by omega⟩, ⟨by omega, by omega⟩, ⟨by omega, by omega⟩, ⟨by omega, by omega⟩⟩
    · rw [h13, h15, h16]; exact (keep _ (by omega)).trans xc
    · rw [h6]; exact (keep _ (by omega)).trans c3
  refine ⟨hA.2.1, H.2.1, H.2.1 + 12, h3, fi, ar, ?_, ⟨⟨fun q hq => ?_, X.xo, hM_w (g := H.1) fun q hq => ?_, fun q hq => (keep q (lt q hq)).trans (lo q hq), by omega, by rw [hh]; exact Nat.le_succ _, Nat.le_refl _, fun _ => 0, by rw [hh]; exact t_up_s⟩, md⟩, by rw [hh]; show H.2.1 + 12 + 1 ≤ _; omega, by rw [hh]; show H.2.2 + 6223 + 1 ≤ _; omega⟩
  · rw [b_L_law_0, e1, bV_rV, m_init0, e2, bV_rV, bV_some, hh]
  · have hq' : H.2.1 + 13 ≤ q := by rw [hh] at hq; exact hq
    rw [hh]
    exact (t_up_n (by show q ≠ H.2.1 + 12; omega)).trans ((hM_o (Or.inr (by omega))).trans (F1 q (by omega)))
  · rw [hh]
    exact t_up_n (by show q ≠ H.2.1 + 12; omega)
/-- the law answers true -/
theorem law_true (hF : Fi hA) (K : KV G hA sa len f) (W : KW G hA) (hl : len ≤ 144) {v5 v6 v7 v8 u1 u2 u3 u4 : Option Value} : ∃ hs, t_Ev (t_pg G) t_hd Y_L_law 0 ([some (.ref sa), u1, u2, u3, u4, v5, v6, v7, v8], [], hA) = rI 1 hs ∧ hs.2.1 ≤ hA.2.1 + 744060 ∧ hs.2.2 ≤ hA.2.2 + 4376000 := by
  obtain ⟨x, m, oa, h1, fi, ar, e, J, y1, y2⟩ := law_start hF K W (v5 := v5) (v6 := v6) (v7 := v7) (v8 := v8) (u1 := u1) (u2 := u2) (u3 := u3) (u4 := u4)
  obtain ⟨h2, e2, y3, y4⟩ := l_loop K 24 J (p := 0) (w5 := v5) (w6 := v6) (w7 := v7) (w8 := v8) (Int.le_refl 0) (by omega) (by omega)
  exact ⟨h2, e.trans e2, by omega, by omega⟩
end ST0
