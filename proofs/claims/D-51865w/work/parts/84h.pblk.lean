/-! ===== the component's parser: statements of the setup ===== -/
/-- the parser with its game, behind the token p0 -/
abbrev PGa (G : tG) (D M : Nat → Prop) (hs : tHS) (u xa ia a : Nat) (inp : Nat → Int) (n p0 : Nat) (s : tRow) (np : Nat) : Prop := (Fi hs) ∧ (IB inp) ∧ (n ≤ 600) ∧ (p0 ≤ n) ∧ (TKu hs.1 u xa (.ref a) inp n p0) ∧ (CI hs.1 xa ia inp n) ∧ (GR G D M hs.1 a s np) ∧ (CH G D hs.1) ∧ (¬ M u) ∧ (¬ M xa ∧ ¬ M ia) ∧ (∀ j, j < 10 → ¬ M (G.1 j)) ∧ (∀ q, u < q → M q) ∧ (∀ q, u < q → D q)
theorem PGa.fi {G : tG} {D M : Nat → Prop} {hs : tHS} {u xa ia a : Nat} {inp : Nat → Int} {n p0 : Nat} {s : tRow} {np : Nat} (zz : PGa G D M hs u xa ia a inp n p0 s np) : Fi hs := zz.1
theorem PGa.ib {G : tG} {D M : Nat → Prop} {hs : tHS} {u xa ia a : Nat} {inp : Nat → Int} {n p0 : Nat} {s : tRow} {np : Nat} (zz : PGa G D M hs u xa ia a inp n p0 s np) : IB inp := zz.2.1
theorem PGa.h6 {G : tG} {D M : Nat → Prop} {hs : tHS} {u xa ia a : Nat} {inp : Nat → Int} {n p0 : Nat} {s : tRow} {np : Nat} (zz : PGa G D M hs u xa ia a inp n p0 s np) : n ≤ 600 := zz.2.2.1
theorem PGa.hp {G : tG} {D M : Nat → Prop} {hs : tHS} {u xa ia a : Nat} {inp : Nat → Int} {n p0 : Nat} {s : tRow} {np : Nat} (zz : PGa G D M hs u xa ia a inp n p0 s np) : p0 ≤ n := zz.2.2.2.1
theorem PGa.tk {G : tG} {D M : Nat → Prop} {hs : tHS} {u xa ia a : Nat} {inp : Nat → Int} {n p0 : Nat} {s : tRow} {np : Nat} (zz : PGa G D M hs u xa ia a inp n p0 s np) : TKu hs.1 u xa (.ref a) inp n p0 := zz.2.2.2.2.1
theorem PGa.ci {G : tG} {D M : Nat → Prop} {hs : tHS} {u xa ia a : Nat} {inp : Nat → Int} {n p0 : Nat} {s : tRow} {np : Nat} (zz : PGa G D M hs u xa ia a inp n p0 s np) : CI hs.1 xa ia inp n := zz.2.2.2.2.2.1
theorem PGa.gr {G : tG} {D M : Nat → Prop} {hs : tHS} {u xa ia a : Nat} {inp : Nat → Int} {n p0 : Nat} {s : tRow} {np : Nat} (zz : PGa G D M hs u xa ia a inp n p0 s np) : GR G D M hs.1 a s np := zz.2.2.2.2.2.2.1
theorem PGa.ch {G : tG} {D M : Nat → Prop} {hs : tHS} {u xa ia a : Nat} {inp : Nat → Int} {n p0 : Nat} {s : tRow} {np : Nat} (zz : PGa G D M hs u xa ia a inp n p0 s np) : CH G D hs.1 := zz.2.2.2.2.2.2.2.1
theorem PGa.mu {G : tG} {D M : Nat → Prop} {hs : tHS} {u xa ia a : Nat} {inp : Nat → Int} {n p0 : Nat} {s : tRow} {np : Nat} (zz : PGa G D M hs u xa ia a inp n p0 s np) : ¬ M u := zz.2.2.2.2.2.2.2.2.1
theorem PGa.mx {G : tG} {D M : Nat → Prop} {hs : tHS} {u xa ia a : Nat} {inp : Nat → Int} {n p0 : Nat} {s : tRow} {np : Nat} (zz : PGa G D M hs u xa ia a inp n p0 s np) : ¬ M xa ∧ ¬ M ia := zz.2.2.2.2.2.2.2.2.2.1
theorem PGa.mc {G : tG} {D M : Nat → Prop} {hs : tHS} {u xa ia a : Nat} {inp : Nat → Int} {n p0 : Nat} {s : tRow} {np : Nat} (zz : PGa G D M hs u xa ia a inp n p0 s np) : ∀ j, j < 10 → ¬ M (G.1 j) := zz.2.2.2.2.2.2.2.2.2.2.1
theorem PGa.mz {G : tG} {D M : Nat → Prop} {hs : tHS} {u xa ia a : Nat} {inp : Nat → Int} {n p0 : Nat} {s : tRow} {np : Nat} (zz : PGa G D M hs u xa ia a inp n p0 s np) : ∀ q, u < q → M q := zz.2.2.2.2.2.2.2.2.2.2.2.1
theorem PGa.dz {G : tG} {D M : Nat → Prop} {hs : tHS} {u xa ia a : Nat} {inp : Nat → Int} {n p0 : Nat} {s : tRow} {np : Nat} (zz : PGa G D M hs u xa ia a inp n p0 s np) : ∀ q, u < q → D q := zz.2.2.2.2.2.2.2.2.2.2.2.2
theorem PGa.u {G : tG} {D M : Nat → Prop} {hs : tHS} {u xa ia a : Nat} {inp : Nat → Int} {n p0 : Nat} {s : tRow} {np : Nat} (k : PGa G D M hs u xa ia a inp n p0 s np) : ∃ kd va w, hs.1 u = some (pcl (.ref a) (tkT inp n p0) (tkF inp n p0) kd va w xa) := k.tk
/-- after steps that change the parser's cell alone -/
theorem PGa.mv {G : tG} {D M : Nat → Prop} {hs hs' : tHS} {u xa ia a : Nat} {inp : Nat → Int} {n p0 p1 : Nat} {s : tRow} {np c d : Nat} (k : PGa G D M hs u xa ia a inp n p0 s np) (m : Mx (fun q => q = u) c d hs hs') (hp : p1 ≤ n) (t : TKu hs'.1 u xa (.ref a) inp n p1) : PGa G D M hs' u xa ia a inp n p1 s np := by
  obtain ⟨kd, va, w, e⟩ := k.u
  have kp : Kp tgG hs.1 hs'.1 := Kp.mxu k.fi m e rfl
  exact ⟨m.2.2.2, k.ib, k.h6, hp, t, k.ci.mx k.fi m e (by decide), k.gr.kp kp, k.ch.kp kp, k.mu, k.mx, k.mc, k.mz, k.dz⟩
section PB
variable {G : tG} {D M : Nat → Prop} {hs : tHS} {u xa ia a n p0 np : Nat} {inp : Nat → Int} {s : tRow}
theorem c_column (k : PGa G D M hs u xa ia a inp n p0 s np) (hD : Dm s) : ∃ hs', Mx (fun q => q = u) (16 * (tkT inp n (tkT inp n p0) - tkT inp n p0) + 1) (100 * (tkT inp n (tkT inp n p0) - tkT inp n p0) + 8) hs hs' ∧
    if hC inp n 0 (s 0 - 1) (tkT inp n p0) = 0 then t_Ev (t_pg G) t_hd Y_X6_column 0 ([some (.ref u)], [], hs) = rI (tkV inp n (tkT inp n p0)) hs' ∧ TKc hs'.1 u xa (.ref a) inp n (tkT inp n p0) hs.2.1 else PErr (hC inp n 0 (s 0 - 1) (tkT inp n p0)) (tkF inp n (tkT inp n p0)) hs.2.1 (t_Ev (t_pg G) t_hd Y_X6_column 0 ([some (.ref u)], [], hs)) hs' := by
  have d0 := hD.1
  obtain ⟨kd, va, w, e⟩ := k.u
  obtain ⟨hs', m, r⟩ := c_number (G := G) k.fi k.ib k.h6 k.hp k.tk k.ci (lo := 0) (hi := s 0 - 1) (by omega) (by omega)
  refine ⟨hs', m, ?_⟩
  rw [b_X6_column_0, gfR_at (k := 0) (q := a) e rfl, Option.bind_some, va_rf_some, k.gr.i1, Option.bind_some, kN_at e, Option.bind_some, iI_sub]
  by_cases c : hC inp n 0 (s 0 - 1) (tkT inp n p0) = 0
  · rw [if_pos c] at r
    rw [if_pos c, r.1, bI_rI]
    exact ⟨rfl, r.2⟩
  · rw [if_neg c] at r
    rw [if_neg c]
    exact r.bI
theorem c_row (k : PGa G D M hs u xa ia a inp n p0 s np) (hD : Dm s) : ∃ hs', Mx (fun q => q = u) (16 * (tkT inp n (tkT inp n p0) - tkT inp n p0) + 1) (100 * (tkT inp n (tkT inp n p0) - tkT inp n p0) + 8) hs hs' ∧
    if hC inp n 0 (s 1 - 1) (tkT inp n p0) = 0 then t_Ev (t_pg G) t_hd Y_X6_row 0 ([some (.ref u)], [], hs) = rI (tkV inp n (tkT inp n p0)) hs' ∧ TKc hs'.1 u xa (.ref a) inp n (tkT inp n p0) hs.2.1 else PErr (hC inp n 0 (s 1 - 1) (tkT inp n p0)) (tkF inp n (tkT inp n p0)) hs.2.1 (t_Ev (t_pg G) t_hd Y_X6_row 0 ([some (.ref u)], [], hs)) hs' := by
  have d1 := hD.2
  obtain ⟨kd, va, w, e⟩ := k.u
  obtain ⟨hs', m, r⟩ := c_number (G := G) k.fi k.ib k.h6 k.hp k.tk k.ci (lo := 0) (hi := s 1 - 1) (by omega) (by omega)
  refine ⟨hs', m, ?_⟩
  rw [b_X6_row_0, gfR_at (k := 0) (q := a) e rfl, Option.bind_some, va_rf_some, k.gr.i2, Option.bind_some, kN_at e, Option.bind_some, iI_sub]
  by_cases c : hC inp n 0 (s 1 - 1) (tkT inp n p0) = 0
  · rw [if_pos c] at r
    rw [if_pos c, r.1, bI_rI]
    exact ⟨rfl, r.2⟩
  · rw [if_neg c] at r
    rw [if_neg c]
    exact r.bI
end PB
/-- the cells that a statement may write: the parser's, and the game's own -/
def MU (u : Nat) (M : Nat → Prop) : Nat → Prop := fun q => q = u ∨ M q
theorem Mx.mu {u c d : Nat} {M : Nat → Prop} {h0 h1 : tHS} (m : Mx (fun q => q = u) c d h0 h1) : Mx (MU u M) c d h0 h1 := m.mono (fun _ h => Or.inl h) (Nat.le_refl _) (Nat.le_refl _)
theorem Mx.mg {u c d : Nat} {M : Nat → Prop} {h0 h1 : tHS} (m : Mx M c d h0 h1) : Mx (MU u M) c d h0 h1 := m.mono (fun _ h => Or.inr h) (Nat.le_refl _) (Nat.le_refl _)
/-- what a statement read has done: r from the row s on, behind the token p0; E its run from hs -/
def Out (G : tG) (D M : Nat → Prop) (hs : tHS) (u xa ia a : Nat) (inp : Nat → Int) (n p0 np z : Nat) (r : PR) (E : Option tRS) (hs' : tHS) : Prop := match r with
  | .inl e => PErr e.1 e.2 z E hs' ∧ Mx (MU u M) (20 * (n - tkT inp n p0) + 1) (150 * (n - tkT inp n p0) + 8) hs hs'
  | .inr q => if tkK inp n q.2 = 4 then PErr 1 (tkF inp n q.2) z E hs' ∧ Mx (MU u M) (20 * (n - tkT inp n p0) + 1) (150 * (n - tkT inp n p0) + 8) hs hs' else E = rV hs' ∧ PGa G D M hs' u xa ia a inp n q.2 q.1 np ∧ TKc hs'.1 u xa (.ref a) inp n q.2 z ∧ tkT inp n p0 ≤ tkT inp n q.2 ∧ Mx (MU u M) (20 * (tkT inp n q.2 - tkT inp n p0)) (150 * (tkT inp n q.2 - tkT inp n p0)) hs hs'
theorem Out.bV {G : tG} {D M : Nat → Prop} {hs hs' : tHS} {u xa ia a n p0 np z : Nat} {inp : Nat → Int} {r : PR} {E : Option tRS} (o : Out G D M hs u xa ia a inp n p0 np z r E hs') : Out G D M hs u xa ia a inp n p0 np z r (bndV E (fun hs_1 => some (.inl none, hs_1)) tX) hs' := by
  cases r with
  | inl e => exact ⟨o.1.bV, o.2⟩
  | inr q =>
    unfold Out at o ⊢
    dsimp only at o ⊢
    by_cases c : tkK inp n q.2 = 4
    · rw [if_pos c] at o ⊢
      exact ⟨o.1.bV, o.2⟩
    · rw [if_neg c] at o ⊢
      exact ⟨by rw [o.1]; rfl, o.2⟩
section PBB
variable {G : tG} {D M : Nat → Prop} {hs : tHS} {u xa ia a n p0 np : Nat} {inp : Nat → Int} {s : tRow}
/-- after a step of the game alone -/
theorem CH.mm {h0 h1 : tHS} {c d : Nat} (hF : Fi h0) (m : Mx M c d h0 h1) (hM : ∀ j, j < 10 → ¬ M (G.1 j)) (C : CH G D h0.1) : CH G D h1.1 := fun j hj => by
  obtain ⟨⟨d1, b, e1⟩, d2, b2, f, e2, e3⟩ := C j hj
  exact ⟨⟨d1, b, (m.1 _ (hF.lt e1) (hM j (by omega))).trans e1⟩, d2, b2, f, (m.1 _ (hF.lt e2) (hM (5 + j) (by omega))).trans e2, e3⟩
theorem PGa.gm {h1 : tHS} {s' : tRow} {c d : Nat} (k : PGa G D M hs u xa ia a inp n p0 s np) (m : Mx M c d hs h1) (g : GR G D M h1.1 a s' np) : PGa G D M h1 u xa ia a inp n p0 s' np := by
  obtain ⟨kd, va, w, e⟩ := k.u
  have ul := k.fi.lt e
  obtain ⟨⟨bx, fl, e1, q1⟩, bi, qq, e4, q4⟩ := k.ci
  have xl := k.fi.lt e1
  have il := k.fi.lt e4
  exact ⟨m.2.2.2, k.ib, k.h6, k.hp, ⟨kd, va, w, (m.1 u ul k.mu).trans e⟩, CI.cg k.ci (m.1 xa xl k.mx.1) (m.1 ia il k.mx.2), g, k.ch.mm k.fi m k.mc, k.mu, k.mx, k.mc, k.mz, k.dz⟩
/-- the statement's end with the row s' -/
theorem c_end {h1 : tHS} {p : Nat} {s' : tRow} {c d z : Nat} (k : PGa G D M h1 u xa ia a inp n p s' np) (m : Mx (MU u M) c d hs h1) (hz : z ≤ h1.2.1) (hpp : tkT inp n p0 ≤ tkT inp n p) (hc : c ≤ 20 * (tkT inp n p - tkT inp n p0)) (hd : d ≤ 150 * (tkT inp n p - tkT inp n p0)) : ∃ hs', Out G D M hs u xa ia a inp n p0 np z (endS inp n s' p) (t_Ev (t_pg G) t_hd Y_X6_endStatement 0 ([some (.ref u)], [], h1)) hs' := by
  obtain ⟨hs', m2, r⟩ := c_endSt (G := G) k.fi k.ib k.h6 k.hp k.tk k.ci
  have t1 := tkT_m (inp := inp) k.hp
  have t2 := tkT_m (inp := inp) t1.2
  have t3 := tkT_m (inp := inp) t2.2
  refine ⟨hs', ?_⟩
  unfold endS
  by_cases c3 : tkK inp n (tkT inp n p) = 3
  · have lt3 := tkT_lt (inp := inp) t1.2 (by omega)
    rw [if_pos c3] at r
    rw [ckS_f (by rw [decide_eq_true c3]; rfl)]
    unfold Out
    by_cases c4 : tkK inp n (tkT inp n (tkT inp n p)) = 4
    · rw [if_pos c4] at r
      try dsimp only
      rw [if_pos c4]
      exact ⟨r.le hz, (m.trans m2.mu).le (by omega) (by omega)⟩
    · rw [if_neg c4] at r
      try dsimp only
      rw [if_neg c4]
      exact ⟨r.1, k.mv m2 t2.2 r.2.u, r.2.z hz, by omega, (m.trans m2.mu).le (by omega) (by omega)⟩
  · rw [if_neg c3] at r
    rw [ckS_t (by rw [decide_eq_false c3]; rfl)]
    exact ⟨r.le hz, (m.trans m2.mu).le (by omega) (by omega)⟩
theorem enc_m2 {v : Int} (h : 0 ≤ v ∧ v ≤ 1000000) : (iI (enc v) = iI (-2)) = (v = 1) := by
  have e : enc v = -2 ↔ v = 1 := by unfold enc; split <;> (try split) <;> omega
  rw [iI_inj (by unfold enc; split <;> (try split) <;> omega) (by unfold enc; split <;> (try split) <;> omega) (by decide) (by decide)]
  exact propext e
theorem c_parseBlock (k : PGa G D M hs u xa ia a inp n p0 s np) (hnp : np ≤ 2) (hD : Dm s) (hB : RB s) : ∃ hs', Out G D M hs u xa ia a inp n p0 np hs.2.1 (blockS inp n s p0) (t_Ev (t_pg G) t_hd Y_X6_parseBlock 0 ([some (.ref u), none, none], [], hs)) hs' := by
  have d0 := hD.1
  have d1 := hD.2
  obtain ⟨kd, va, w, e⟩ := k.u
  have t0 := tkT_m (inp := inp) k.hp
  have t1 := tkT_m (inp := inp) t0.2
  have t2 := tkT_m (inp := inp) t1.2
  obtain ⟨h1, m1, r1⟩ := c_column k hD
  rw [b_X6_parseBlock_0, kN_at e, Option.bind_some]
  unfold blockS
  by_cases c1 : hC inp n 0 (s 0 - 1) (tkT inp n p0) = 0
  case neg =>
    rw [if_neg c1] at r1
    rw [nuS_er c1]
    exact ⟨h1, r1.bI, m1.mu.le (by omega) (by omega)⟩
  rw [if_pos c1] at r1
  have b1 := hC_ok c1
  have lt1 := tkT_lt (inp := inp) t0.2 (by omega)
  have k1 := k.mv m1 t0.2 r1.2.u
  obtain ⟨kd1, va1, w1, e1⟩ := k1.u
  rw [nuS_ok c1, r1.1, bI_rI, kN_at e1, Option.bind_some]
  obtain ⟨h2, m2, r2⟩ := c_row k1 hD
  have z1 := m1.2.1.1
  have z2 := m2.2.1.1
  by_cases c2 : hC inp n 0 (s 1 - 1) (tkT inp n (tkT inp n p0)) = 0
  case neg =>
    rw [if_neg c2] at r2
    rw [nuS_er c2]
    exact ⟨h2, r2.bI.le z1, (m1.mu.trans m2.mu).le (by omega) (by omega)⟩
  rw [if_pos c2] at r2
  have b2 := hC_ok c2
  have lt2 := tkT_lt (inp := inp) t1.2 (by omega)
  have k2 := k1.mv m2 t1.2 r2.2.u
  obtain ⟨kd2, va2, w2, e2⟩ := k2.u
  have m12 := m1.mu (M := M) |>.trans m2.mu
  rw [nuS_ok c2, r2.1, bI_rI, gfR_at (k := 0) (q := a) e2 rfl, Option.bind_some, va_rf_some, k2.gr.k, Option.bind_some]
  generalize tkV inp n (tkT inp n p0) = x at b1 ⊢
  generalize tkV inp n (tkT inp n (tkT inp n p0)) = y at b2 ⊢
  rw [c_cell k2.gr (by omega) (by omega) (by omega) (by omega), bI_rI]
  simp only [enc_m2 (hB.c x y)]
  by_cases c3 : cI s x y = 1
  · rw [if_pos c3, ckS_t (decide_eq_true c3), kN_at e2, Option.bind_some]
    obtain ⟨h3, p3, x3⟩ := c_throw (G := G) (c := 4) k2.fi e2
    exact ⟨h3, p3.le (by omega), (m12.trans (Mx.u0 x3).mu).le (by omega) (by omega)⟩
  · rw [if_neg c3, ckS_f (decide_eq_false c3)]
    obtain ⟨h3, e3, g3, m3⟩ := c_block k2.gr k2.fi hnp (x := x) (y := y) (by omega) (by omega)
    have k3 := k2.gm m3 g3
    obtain ⟨kd3, va3, w3, e3'⟩ := k3.u
    rw [gfR_at (k := 0) (q := a) e2 rfl, Option.bind_some, va_rf_some, k2.gr.k, Option.bind_some, e3, bV_rV, kN_at e3', Option.bind_some]
    obtain ⟨h4, o4⟩ := c_end (hs := hs) (p0 := p0) (z := hs.2.1) (c := 20 * (tkT inp n (tkT inp n (tkT inp n p0)) - tkT inp n p0)) (d := 150 * (tkT inp n (tkT inp n (tkT inp n p0)) - tkT inp n p0)) k3 ((m12.trans m3.mg).le (by omega) (by omega)) (by have := m3.2.1.1; omega) (by omega) (Nat.le_refl _) (Nat.le_refl _)
    exact ⟨h4, o4.bV⟩
end PBB
