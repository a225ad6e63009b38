section PS2
variable {G : tG} {D D' M : Nat → Prop} {hs : tHS} {u xa ia a n p0 np : Nat} {inp : Nat → Int} {s : tRow}
theorem sideS_1 {p : Nat} (h : sideS inp n p ≠ -1) : tkK inp n p = 1 := by
  unfold sideS at h
  cases c : wrd inp n p wRight with
  | true => exact wrd_1 c
  | false =>
    rw [c, if_neg (by decide)] at h
    cases c2 : wrd inp n p wBelow with
    | true => exact wrd_1 c2
    | false => rw [c2] at h; exact absurd rfl h
/-- the game after a word got its hash -/
theorem PGa.hw {w vq0 : Nat} {hv hz : Int32} (k : PGa G D M hs u xa ia a inp n p0 s np) (ew : hs.1 w = some (hwE vq0 (iI 0) (iI 0))) : PGa G D M (t_up hs.1 w (hwE vq0 hv hz), hs.2) u xa ia a inp n p0 s np := by
  obtain ⟨kd, va, w', e⟩ := k.u
  have ne := k.ci.ne ew (by decide)
  have nu : u ≠ w := ne_tg e ew (by show ((6 : Nat), 0) ≠ (11, 0); decide)
  exact ⟨(Mx.up (M := fun _ => True) (c := 0) (d := 0) k.fi ew trivial).2.2.2, k.ib, k.h6, k.hp, ⟨kd, va, w', (t_up_n nu).trans e⟩, CI.cg k.ci (t_up_n ne.1) (t_up_n ne.2), k.gr.hw ew, k.ch.hw ew, k.mu, k.mx, k.mc, k.mz, k.dz⟩
theorem c_parseSide (k : PGa G D M hs u xa ia a inp n p0 s np) (hD : Dm s) (Wr : WD D' hs.1 (G.1 43) wRight) (Wb : WD D' hs.1 (G.1 25) wBelow) {x y : Int} (hx : 0 ≤ x ∧ x ≤ 7) (hy : 0 ≤ y ∧ y ≤ 7) : ∃ hs', Mx (MU u M) (16 * (tkT inp n (tkT inp n p0) - tkT inp n p0) + 1) (100 * (tkT inp n (tkT inp n p0) - tkT inp n p0) + 8) hs hs' ∧
    if sideS inp n (tkT inp n p0) = -1 then PErr 1 (tkF inp n (tkT inp n p0)) hs.2.1 (t_Ev (t_pg G) t_hd Y_X6_parseSide 0 ([some (.ref u), some (.int (iI x)), some (.int (iI y)), none], [], hs)) hs' else if isEd s x y (sideS inp n (tkT inp n p0)) = false then PErr 3 (tkF inp n (tkT inp n p0)) hs.2.1 (t_Ev (t_pg G) t_hd Y_X6_parseSide 0 ([some (.ref u), some (.int (iI x)), some (.int (iI y)), none], [], hs)) hs' else t_Ev (t_pg G) t_hd Y_X6_parseSide 0 ([some (.ref u), some (.int (iI x)), some (.int (iI y)), none], [], hs) = rI (sideS inp n (tkT inp n p0)) hs' ∧ PGa G D M hs' u xa ia a inp n (tkT inp n p0) s np := by
  obtain ⟨kd, va, w, e⟩ := k.u
  have ul := k.fi.lt e
  have t0 := tkT_m (inp := inp) k.hp
  obtain ⟨p, hpq⟩ : ∃ p, p = tkT inp n p0 := ⟨_, rfl⟩
  rw [← hpq] at e t0 ⊢
  obtain ⟨h1, m1, r1⟩ := c_advance (G := G) k.fi k.ib k.h6 t0.2 e k.ci
  have z1 := m1.2.1.1
  rw [b_X6_parseSide_0, kN_at e, Option.bind_some]
  by_cases k4 : tkK inp n p = 4
  · rw [if_pos k4] at r1
    have sd : sideS inp n p = -1 := by
      by_cases c : sideS inp n p = -1
      · exact c
      · have := sideS_1 c; omega
    refine ⟨h1, m1.mu.le (by omega) (by omega), ?_⟩
    rw [if_pos sd]
    exact r1.bV
  rw [if_neg k4] at r1
  obtain ⟨e1, tk1⟩ := r1
  have k1 := k.mv m1 t0.2 tk1.u
  obtain ⟨kd1, va1, w1, e1'⟩ := k1.u
  obtain ⟨hb, xb, rb⟩ := c_expect (G := G) k1.fi tk1 k4 (t := 1) (by decide)
  rw [show cKd 1 = 0 from rfl] at rb
  rw [e1, bV_rV, kN_at e1', Option.bind_some]
  by_cases kw : tkK inp n p = 1
  case neg =>
    rw [if_neg kw] at rb
    have sd : sideS inp n p = -1 := by
      by_cases c : sideS inp n p = -1
      · exact c
      · exact absurd (sideS_1 c) kw
    refine ⟨hb, (m1.mu.trans (Mx.u0 xb).mu).le (by omega) (by omega), ?_⟩
    rw [if_pos sd]
    exact rb.bV.le z1
  rw [if_pos kw] at rb
  rw [rb.1, bV_rV, kN_at e1', Option.bind_some]
  have wk : ∀ {q : Nat} {l : List Int}, WD D' hs.1 q l → WD D' h1.1 q l := fun {q l} W => by
    obtain ⟨⟨d1, b, hv, hz, vq, g1, d2, b', g, g2, g3⟩, hl⟩ := W
    have n1 : q ≠ u := ne_tg g1 e (by show ((11 : Nat), 0) ≠ (6, 0); decide)
    have n2 : vq ≠ u := ne_tg g2 e (by show ((2 : Nat), l.length + 1) ≠ (6, 0); intro w; cases w)
    exact ⟨⟨d1, b, hv, hz, vq, (m1.1 q (k.fi.lt g1) n1).trans g1, d2, b', g, (m1.1 vq (k.fi.lt g2) n2).trans g2, g3⟩, hl⟩
  obtain ⟨w2, vq0, hv, hz, h2, zw, ew, m2, r2⟩ := c_sideOfWord (G := G) k1.fi tk1 kw k.h6 t0.2 ul (wk Wr) (wk Wb)
  have m2' : Mx (MU u M) 1 8 h1 h2 := m2.mono (fun q hq => Or.inr (k.mz q (by omega))) (Nat.le_refl _) (Nat.le_refl _)
  by_cases sd : sideS inp n p = -1
  · rw [if_pos sd] at r2
    refine ⟨h2, (m1.mu.trans m2').le (by omega) (by omega), ?_⟩
    rw [if_pos sd]
    exact r2.bI.le z1
  · rw [if_neg sd] at r2
    have hd : sideS inp n p = 0 ∨ sideS inp n p = 1 := sideS_c.resolve_left sd
    have k2 : PGa G D M h2 u xa ia a inp n p s np := by rw [r2.2]; exact k1.hw ew
    obtain ⟨kd2, va2, w3, e2⟩ := k2.u
    rw [r2.1, bI_rI, gfR_at (k := 0) (q := a) e2 rfl, Option.bind_some, va_rf_some, k2.gr.k, Option.bind_some, c_isEdge k2.gr hD (by omega) (by omega) (by omega) (by omega) (by omega) (by omega), bI_rB]
    simp only [bB_0]
    cases ce : isEd s x y (sideS inp n p) with
    | false =>
      obtain ⟨h3, p3, x3⟩ := c_throw (G := G) (c := 3) k2.fi e2
      have z2 := m2.2.1.1
      refine ⟨h3, ?_, ?_⟩
      · have m3 : Mx (MU u M) 0 0 h1 h2 := by
          rw [r2.2]
          exact Mx.up k1.fi ew (Or.inr (k.mz w2 (by omega)))
        exact ((m1.mu.trans m3).trans (Mx.u0 x3).mu).le (by omega) (by omega)
      · rw [if_neg sd, if_pos rfl, if_pos rfl, kN_at e2, Option.bind_some]
        exact p3.le (by omega)
    | true =>
      refine ⟨h2, (m1.mu.trans m2').le (by omega) (by omega), ?_⟩
      rw [if_neg sd, if_neg (by decide), if_neg (by decide)]
      exact ⟨rfl, k2⟩
end PS2
section PS3
variable {G : tG} {D D' M : Nat → Prop} {hs : tHS} {u xa ia a n p0 np : Nat} {inp : Nat → Int} {s : tRow}
/-- words stay while the parser's cell alone changes -/
theorem WD.mu {h0 h1 : tHS} {c d q : Nat} {l : List Int} {e0 : tEnt} (hF : Fi h0) (m : Mx (fun q => q = u) c d h0 h1) (hu : h0.1 u = some e0) (ht : tg e0 = (6, 0)) (W : WD D' h0.1 q l) : WD D' h1.1 q l := by
  obtain ⟨⟨d1, b, hv, hz, vq, g1, d2, b', g, g2, g3⟩, hl⟩ := W
  have n1 : q ≠ u := ne_tg g1 hu (by rw [ht]; show ((11 : Nat), 0) ≠ (6, 0); decide)
  have n2 : vq ≠ u := ne_tg g2 hu (by rw [ht]; show ((2 : Nat), l.length + 1) ≠ (6, 0); intro w; cases w)
  exact ⟨⟨d1, b, hv, hz, vq, (m.1 q (hF.lt g1) n1).trans g1, d2, b', g, (m.1 vq (hF.lt g2) n2).trans g2, g3⟩, hl⟩
theorem c_parseStrap (k : PGa G D M hs u xa ia a inp n p0 s np) (hnp : np ≤ 2) (hD : Dm s) (hB : RB s) (Wr : WD D' hs.1 (G.1 43) wRight) (Wb : WD D' hs.1 (G.1 25) wBelow) : ∃ hs', Out G D M hs u xa ia a inp n p0 np hs.2.1 (edgeS inp n s p0) (t_Ev (t_pg G) t_hd Y_X6_parseStrap 0 ([some (.ref u), none, none, none], [], hs)) hs' := by
  have d0 := hD.1
  have d1 := hD.2
  obtain ⟨kd, va, w, e⟩ := k.u
  have t0 := tkT_m (inp := inp) k.hp
  have t1 := tkT_m (inp := inp) t0.2
  have t2 := tkT_m (inp := inp) t1.2
  have t3 := tkT_m (inp := inp) t2.2
  obtain ⟨h1, m1, r1⟩ := c_column k hD
  rw [b_X6_parseStrap_0, kN_at e, Option.bind_some]
  unfold edgeS
  by_cases c1 : hC inp n 0 (s 0 - 1) (tkT inp n p0) = 0
  case neg =>
    rw [if_neg c1] at r1
    rw [nuS_er c1]
    exact ⟨h1, r1.bI, m1.mu.le (by omega) (by omega)⟩
  rw [if_pos c1] at r1
  have b1 := hC_ok c1
  have lt1 := tkT_lt (inp := inp) t0.2 (by omega)
  have k1 := k.mv m1 t0.2 r1.2.u
  obtain ⟨kd1, va1, w1, e1⟩ := k1.u
  rw [nuS_ok c1, r1.1, bI_rI, kN_at e1, Option.bind_some]
  obtain ⟨h2, m2, r2⟩ := c_row k1 hD
  have z1 := m1.2.1.1
  have z2 := m2.2.1.1
  by_cases c2 : hC inp n 0 (s 1 - 1) (tkT inp n (tkT inp n p0)) = 0
  case neg =>
    rw [if_neg c2] at r2
    rw [nuS_er c2]
    exact ⟨h2, r2.bI.le z1, (m1.mu.trans m2.mu).le (by omega) (by omega)⟩
  rw [if_pos c2] at r2
  have b2 := hC_ok c2
  have lt2 := tkT_lt (inp := inp) t1.2 (by omega)
  have k2 := k1.mv m2 t1.2 r2.2.u
  obtain ⟨kd2, va2, w2, e2⟩ := k2.u
  have m12 := m1.mu (M := M) |>.trans m2.mu
  rw [nuS_ok c2, r2.1, bI_rI, kN_at e2, Option.bind_some]
  have Wr2 : WD D' h2.1 (G.1 43) wRight := (Wr.mu k.fi m1 e rfl).mu k1.fi m2 e1 rfl
  have Wb2 : WD D' h2.1 (G.1 25) wBelow := (Wb.mu k.fi m1 e rfl).mu k1.fi m2 e1 rfl
  try dsimp only
  generalize tkV inp n (tkT inp n p0) = x at b1 ⊢
  generalize tkV inp n (tkT inp n (tkT inp n p0)) = y at b2 ⊢
  obtain ⟨h3, m3, r3⟩ := c_parseSide k2 hD Wr2 Wb2 (x := x) (y := y) (by omega) (by omega)
  have z3 := m3.2.1.1
  have m123 := m12.trans m3
  have hsd := sideS_c (inp := inp) (n := n) (p := tkT inp n (tkT inp n (tkT inp n p0)))
  have s1 := @sideS_1 n inp (tkT inp n (tkT inp n (tkT inp n p0)))
  generalize sideS inp n (tkT inp n (tkT inp n (tkT inp n p0))) = d at r3 hsd s1 ⊢
  by_cases cd : d = -1
  · rw [if_pos cd] at r3
    rw [ckS_t (decide_eq_true cd)]
    exact ⟨h3, r3.bI.le (by omega), m123.le (by omega) (by omega)⟩
  have hd := hsd.resolve_left cd
  have lt3 := tkT_lt (inp := inp) t2.2 (by rw [s1 cd]; decide)
  rw [if_neg cd] at r3
  rw [ckS_f (decide_eq_false cd)]
  cases ce : isEd s x y d with
  | false =>
    rw [if_pos ce] at r3
    rw [ckS_nt]
    exact ⟨h3, r3.bI.le (by omega), m123.le (by omega) (by omega)⟩
  | true =>
    rw [if_neg (by rw [ce]; decide)] at r3
    obtain ⟨r3e, k3⟩ := r3
    obtain ⟨bx, by', bu, bv, -, -⟩ := isEd_b hD ce hd
    obtain ⟨kd3, va3, w3, e3⟩ := k3.u
    have thr : ∀ c : Int, ∃ hs', PErr c (tkF inp n (tkT inp n (tkT inp n (tkT inp n p0)))) hs.2.1 ((t_kN h3.1 (.ref u) 6).bind fun a_11 => bndR (t_Ev (t_pg G) t_hd Y_X6_error 0 ([some (.ref a_11), some (.int (iI c))], [], h3)) (fun o_13 hs_12 => (t_obj hs_12.1 (va_rf o_13)).bind fun a_14 => some (.inr a_14, hs_12)) tX) hs' ∧ Mx (MU u M) (20 * (n - tkT inp n p0) + 1) (150 * (n - tkT inp n p0) + 8) hs hs' := fun c => by
      obtain ⟨h4, p4, x4⟩ := c_throw (G := G) (c := c) k3.fi e3
      refine ⟨h4, ?_, (m123.trans (Mx.u0 x4).mu).le (by omega) (by omega)⟩
      rw [kN_at e3, Option.bind_some]
      exact p4.le (by omega)
    rw [ckS_nf, r3e, bI_rI, gfR_at (k := 0) (q := a) e3 rfl, Option.bind_some, va_rf_some, k3.gr.k, Option.bind_some, c_isStrapped k3.gr bx by' (by omega) (by omega), bI_rB]
    simp only [bB_0]
    cases cs : stB s x y d with
    | true =>
      rw [if_neg (by decide), ckS_t rfl]
      obtain ⟨h4, p4, m4⟩ := thr 4
      exact ⟨h4, p4, m4⟩
    | false =>
      rw [if_pos rfl, ckS_f rfl, gfR_at (k := 0) (q := a) e3 rfl, Option.bind_some, va_rf_some, k3.gr.k, Option.bind_some, c_cell k3.gr (by omega) (by omega) (by omega) (by omega), bI_rI]
      simp only [enc_m2 (hB.c x y)]
      by_cases c5 : cI s x y = 1
      · rw [if_pos c5, ckS_t (by rw [decide_eq_true c5]; rfl)]
        obtain ⟨h4, p4, m4⟩ := thr 5
        exact ⟨h4, p4, m4⟩
      · rw [if_neg c5, gfR_at (k := 0) (q := a) e3 rfl, Option.bind_some, Option.bind_some, va_rf_some, k3.gr.k, Option.bind_some, c_columnBeyond (by omega) (by omega), bI_rI, gfR_at (k := 0) (q := a) e3 rfl, Option.bind_some, va_rf_some, k3.gr.k, Option.bind_some, c_rowBeyond (by omega) (by omega), bI_rI, k3.gr.k, Option.bind_some, c_cell k3.gr bu.1 bu.2 bv.1 bv.2, bI_rI]
        simp only [enc_m2 (hB.c (bey0 x d) (bey1 y d))]
        by_cases c6 : cI s (bey0 x d) (bey1 y d) = 1
        · rw [if_pos c6, ckS_t (by rw [decide_eq_true c6, Bool.or_true])]
          obtain ⟨h4, p4, m4⟩ := thr 5
          exact ⟨h4, p4, m4⟩
        · rw [if_neg c6, ckS_f (by rw [decide_eq_false c5, decide_eq_false c6]; rfl), gfR_at (k := 0) (q := a) e3 rfl, Option.bind_some, va_rf_some, k3.gr.k, Option.bind_some]
          obtain ⟨h4, e4, g4, m4⟩ := c_setStrap k3.gr k3.fi hnp bx by' (d := d) (by omega)
          have k4 := k3.gm m4 g4
          obtain ⟨kd4, va4, w4, e4'⟩ := k4.u
          rw [e4, bV_rV, kN_at e4', Option.bind_some]
          obtain ⟨h5, o5⟩ := c_end (hs := hs) (p0 := p0) (z := hs.2.1) (c := 20 * (tkT inp n (tkT inp n (tkT inp n (tkT inp n p0))) - tkT inp n p0)) (d := 150 * (tkT inp n (tkT inp n (tkT inp n (tkT inp n p0))) - tkT inp n p0)) k4 ((m123.trans m4.mg).le (by omega) (by omega)) (by have := m4.2.1.1; omega) (by omega) (Nat.le_refl _) (Nat.le_refl _)
          exact ⟨h5, o5.bV⟩
end PS3
