/-! ===== the component's parser: commands ===== -/
/-- what a command did, ahead of its semicolon: an error; a move that isn't possible, thrown; a move made -/
def CO (G : tG) (D M : Nat → Prop) (hs : tHS) (u xa ia a : Nat) (inp : Nat → Int) (n p0 z : Nat) (s : tRow) (r : PR) (E : Option tRS) (hs' : tHS) : Prop :=
  (∃ e, r = .inl e ∧ PErr e.1 e.2 z E hs' ∧ Mx (MU u M) (20 * (n - tkT inp n p0) + 1) (150 * (n - tkT inp n p0) + 8) hs hs') ∨
  (∃ q, r = .inl (6, tkF inp n q) ∧ (∃ ex, E = some (.inr ex, hs') ∧ hs'.1 ex = some (true, 14, .inl [])) ∧ PGa G D M hs' u xa ia a inp n q s 2 ∧ tkT inp n p0 ≤ tkT inp n q ∧ Mx (MU u M) (20 * (tkT inp n q - tkT inp n p0) + 5) (150 * (tkT inp n q - tkT inp n p0) + 14) hs hs') ∨
  (∃ q s', r = endS inp n s' q ∧ E = rV hs' ∧ PGa G D M hs' u xa ia a inp n q s' 2 ∧ tkT inp n p0 ≤ tkT inp n q ∧ Mx (MU u M) (20 * (tkT inp n q - tkT inp n p0) + 4) (150 * (tkT inp n q - tkT inp n p0) + 8) hs hs')
section CS
variable {G : tG} {D D' M : Nat → Prop} {hs : tHS} {u xa ia a n p0 : Nat} {inp : Nat → Int} {s : tRow}
theorem PGa.ex {c d p : Nat} {h1 : tHS} (k : PGa G D M hs u xa ia a inp n p s 2) (x : Ex c d hs h1) : PGa G D M h1 u xa ia a inp n p s 2 := by
  obtain ⟨kd, va, w, e⟩ := k.u
  exact k.mv (Mx.u0 x) k.hp ⟨kd, va, w, (x.1 u (k.fi.lt e) (fun z => z)).trans e⟩
theorem c_cmdStrap (k : PGa G D M hs u xa ia a inp n p0 s 2) (hD : Dm s) (hB : RB s) (hT : s 2 ≤ 1) (Wr : WD D' hs.1 (G.1 43) wRight) (Wb : WD D' hs.1 (G.1 25) wBelow) {v1 v3 v4 v5 : Option Value} : ∃ hs', CO G D M hs u xa ia a inp n p0 hs.2.1 s (strapS inp n s p0) (t_Ev (t_pg G) t_hd Y_X6_parseCommand 83 ([some (.ref u), v1, some (.int (iI 1)), v3, v4, v5], [], hs)) hs' := by
  have d0 := hD.1
  have d1 := hD.2
  obtain ⟨kd, va, w, e⟩ := k.u
  have t0 := tkT_m (inp := inp) k.hp
  have t1 := tkT_m (inp := inp) t0.2
  have t2 := tkT_m (inp := inp) t1.2
  have t3 := tkT_m (inp := inp) t2.2
  obtain ⟨h1, m1, r1⟩ := c_column k hD
  rw [b_X6_parseCommand_83, if_neg (by decide), if_pos rfl, kN_at e, Option.bind_some]
  unfold strapS
  by_cases c1 : hC inp n 0 (s 0 - 1) (tkT inp n p0) = 0
  case neg =>
    rw [if_neg c1] at r1
    rw [nuS_er c1]
    exact ⟨h1, Or.inl ⟨_, rfl, r1.bI, m1.mu.le (by omega) (by omega)⟩⟩
  rw [if_pos c1] at r1
  have b1 := hC_ok c1
  have lt1 := tkT_lt (inp := inp) t0.2 (by omega)
  have k1 := k.mv m1 t0.2 r1.2.u
  obtain ⟨kd1, va1, w1, e1⟩ := k1.u
  rw [nuS_ok c1, r1.1, bI_rI, kN_at e1, Option.bind_some]
  obtain ⟨h2, m2, r2⟩ := c_row k1 hD
  have z1 := m1.2.1.1
  have z2 := m2.2.1.1
  by_cases c2 : hC inp n 0 (s 1 - 1) (tkT inp n (tkT inp n p0)) = 0
  case neg =>
    rw [if_neg c2] at r2
    rw [nuS_er c2]
    exact ⟨h2, Or.inl ⟨_, rfl, r2.bI.le z1, (m1.mu.trans m2.mu).le (by omega) (by omega)⟩⟩
  rw [if_pos c2] at r2
  have b2 := hC_ok c2
  have lt2 := tkT_lt (inp := inp) t1.2 (by omega)
  have k2 := k1.mv m2 t1.2 r2.2.u
  obtain ⟨kd2, va2, w2, e2⟩ := k2.u
  have m12 := m1.mu (M := M) |>.trans m2.mu
  rw [nuS_ok c2, r2.1, bI_rI, gfR_at (k := 0) (q := a) e2 rfl, Option.bind_some, kN_at e2, Option.bind_some]
  have Wr2 : WD D' h2.1 (G.1 43) wRight := (Wr.mu k.fi m1 e rfl).mu k1.fi m2 e1 rfl
  have Wb2 : WD D' h2.1 (G.1 25) wBelow := (Wb.mu k.fi m1 e rfl).mu k1.fi m2 e1 rfl
  try dsimp only
  generalize tkV inp n (tkT inp n p0) = x at b1 ⊢
  generalize tkV inp n (tkT inp n (tkT inp n p0)) = y at b2 ⊢
  obtain ⟨h3, m3, r3⟩ := c_parseSide k2 hD Wr2 Wb2 (x := x) (y := y) (by omega) (by omega)
  have z3 := m3.2.1.1
  have m123 := m12.trans m3
  have hsd := sideS_c (inp := inp) (n := n) (p := tkT inp n (tkT inp n (tkT inp n p0)))
  have s1 := @sideS_1 n inp (tkT inp n (tkT inp n (tkT inp n p0)))
  generalize sideS inp n (tkT inp n (tkT inp n (tkT inp n p0))) = d at r3 hsd s1 ⊢
  by_cases cd : d = -1
  · rw [if_pos cd] at r3
    rw [ckS_t (decide_eq_true cd)]
    exact ⟨h3, Or.inl ⟨_, rfl, r3.bI.le (by omega), m123.le (by omega) (by omega)⟩⟩
  have hd := hsd.resolve_left cd
  have lt3 := tkT_lt (inp := inp) t2.2 (by rw [s1 cd]; decide)
  rw [if_neg cd] at r3
  rw [ckS_f (decide_eq_false cd)]
  cases ce : isEd s x y d with
  | false =>
    rw [if_pos ce] at r3
    rw [ckS_nt]
    exact ⟨h3, Or.inl ⟨_, rfl, r3.bI.le (by omega), m123.le (by omega) (by omega)⟩⟩
  | true =>
    rw [if_neg (by rw [ce]; decide)] at r3
    obtain ⟨r3e, k3⟩ := r3
    have f := c_fasten (G := G) k3.gr k3.fi hD hB hT (x := x) (y := y) (d := d) (by omega) ce
    rw [ckS_nf, r3e, bI_rI, va_rf_some, k3.gr.k, Option.bind_some]
    cases cm : mayF s x y d with
    | true =>
      rw [if_pos cm] at f
      obtain ⟨h4, e4, g4, m4⟩ := f
      rw [ckS_nf, e4, bI_rI]
      exact ⟨h4, Or.inr (Or.inr ⟨_, _, rfl, rfl, k3.gm m4 g4, by omega, (m123.trans m4.mg).le (by omega) (by omega)⟩)⟩
    | false =>
      rw [if_neg (by rw [cm]; decide)] at f
      rw [ckS_nt, f]
      have xa : Ex 1 6 h3 (t_al h3 (true, 14, .inl []) 6) := Ex.al k3.fi
      exact ⟨_, Or.inr (Or.inl ⟨_, rfl, ⟨h3.2.1, rfl, t_up_s⟩, k3.ex xa, by omega, (m123.trans (Mx.u0 xa).mu).le (by omega) (by omega)⟩)⟩
theorem c_cmdPass (k : PGa G D M hs u xa ia a inp n p0 s 2) (hD : Dm s) (hB : RB s) (hT : s 2 ≤ 1) {v1 v3 v4 v5 : Option Value} : ∃ hs', CO G D M hs u xa ia a inp n p0 hs.2.1 s (ckS inp n (!mayS s) 6 p0 (endS inp n (pas s) p0)) (t_Ev (t_pg G) t_hd Y_X6_parseCommand 83 ([some (.ref u), v1, some (.int (iI 2)), v3, v4, v5], [], hs)) hs' := by
  obtain ⟨kd, va, w, e⟩ := k.u
  have f := c_skip (G := G) k.gr k.ch k.fi hD hB hT
  rw [b_X6_parseCommand_83, if_neg (by decide), if_neg (by decide), if_pos rfl, gfR_at (k := 0) (q := a) e rfl, Option.bind_some, va_rf_some, k.gr.k, Option.bind_some]
  cases cm : mayS s with
  | true =>
    rw [if_pos cm] at f
    obtain ⟨h4, e4, g4, m4⟩ := f
    rw [ckS_nf, e4, bI_rI]
    exact ⟨h4, Or.inr (Or.inr ⟨_, _, rfl, rfl, k.gm m4 g4, Nat.le_refl _, m4.mg.le (by omega) (by omega)⟩)⟩
  | false =>
    rw [if_neg (by rw [cm]; decide)] at f
    obtain ⟨h4, e4, x4⟩ := f
    rw [ckS_nt, e4]
    have x5 : Ex 5 14 hs (t_al h4 (true, 14, .inl []) 6) := x4.trans (Ex.al x4.2.2.2)
    exact ⟨_, Or.inr (Or.inl ⟨_, rfl, ⟨h4.2.1, rfl, t_up_s⟩, k.ex x5, Nat.le_refl _, (Mx.u0 x5).mu.le (by omega) (by omega)⟩)⟩
end CS
