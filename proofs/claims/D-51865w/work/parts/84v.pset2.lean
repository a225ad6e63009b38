/-! ===== the component's parser: the setup, whole ===== -/
section SV2
variable {G : tG} {D D' M : Nat → Prop} {u xa ia n : Nat} {inp : Nat → Int}
theorem blocksS_ok : ∀ (f : Nat) {s s' : tRow} {p q : Nat}, p ≤ n → W0 s → blocksS inp n f s p = .inr (s', q) → W0 s' ∧ q ≤ n := by
  intro f
  induction f with
  | zero => intro s s' p q hp w h; rw [blocksS] at h; cases h; exact ⟨w, hp⟩
  | succ f ih =>
    intro s s' p q hp w h
    rw [blocksS] at h
    by_cases c : wrd inp n p wBlock = true
    · rw [if_pos c] at h
      cases hr : blockS inp n s p with
      | inl e => rw [hr] at h; cases h
      | inr a1 =>
        obtain ⟨s1, q1⟩ := a1
        rw [hr] at h
        obtain ⟨w1, -, qn⟩ := blockS_ok hp (by rw [wrd_1 c]; decide) w hr
        exact ih qn w1 h
    · rw [if_neg c] at h; cases h; exact ⟨w, hp⟩
theorem edgesS_ok : ∀ (f : Nat) {s s' : tRow} {p q : Nat}, p ≤ n → W0 s → edgesS inp n f s p = .inr (s', q) → W0 s' ∧ q ≤ n := by
  intro f
  induction f with
  | zero => intro s s' p q hp w h; rw [edgesS] at h; cases h; exact ⟨w, hp⟩
  | succ f ih =>
    intro s s' p q hp w h
    rw [edgesS] at h
    by_cases c : wrd inp n p wStrap = true
    · rw [if_pos c] at h
      cases hr : edgeS inp n s p with
      | inl e => rw [hr] at h; cases h
      | inr a1 =>
        obtain ⟨s1, q1⟩ := a1
        rw [hr] at h
        obtain ⟨w1, -, qn⟩ := edgeS_ok hp (by rw [wrd_1 c]; decide) w hr
        exact ih qn w1 h
    · rw [if_neg c] at h; cases h; exact ⟨w, hp⟩
theorem Out.sto {hs0 hs hs' : tHS} {a p np z : Nat} {r : PR} {E : Option tRS} {N : tHS → Option tRS} (m0 : Mx (MU u M) (25 * tkT inp n p + 10) (150 * tkT inp n p + 300) hs0 hs) (hp : tkT inp n p ≤ n) (hz : hs0.2.1 ≤ z) (o : Out G D M hs u xa ia a inp n p np z r E hs') : StO G D M hs0 u xa ia a inp n np r (bndV E N tX) N hs' := by
  cases r with
  | inl e => exact ⟨(o.1.le hz).bV, (m0.trans o.2).le (by omega) (by omega)⟩
  | inr q =>
    unfold Out at o
    unfold StO
    dsimp only at o ⊢
    by_cases c4 : tkK inp n q.2 = 4
    · rw [if_pos c4] at o ⊢
      exact ⟨(o.1.le hz).bV, (m0.trans o.2).le (by omega) (by omega)⟩
    · rw [if_neg c4] at o ⊢
      obtain ⟨oe, ok2, otk, ot, om⟩ := o
      exact ⟨by rw [oe, bV_rV], ok2, otk.z hz, (m0.trans om).le (by omega) (by omega)⟩
theorem c_head {hs : tHS} {sv wd : Nat} {st kd va : Int} {v2 : Option Value} {b : tRow} (hF : Fi hs) (ib : IB inp) (h6 : n ≤ 600) (ci : CI hs.1 xa ia inp n) (hu : hs.1 u = some (pcl .null ((0 : Nat) : Int) st kd va wd xa)) (ch : CH G D hs.1) (hsv : gfR hs.1 (.ref xa) 0 0 = some (some sv)) (S : SV G D hs.1 sv) (mu : ¬ M u) (mx : ¬ M xa ∧ ¬ M ia) (mc : ∀ j, j < 10 → ¬ M (G.1 j)) (mz : ∀ q, u < q → M q) (dz : ∀ q, u < q → D q) (hD' : ∀ q, D' q → ¬ MU u M q) (W : CWd G D' hs.1) (b0 : ∀ j, j < 417 → b j = 0) : ∃ hs' a v1, StO G D M hs u xa ia a inp n 0 (headS inp n b) (t_Ev (t_pg G) t_hd Y_X6_parseSetup 0 ([some (.ref u), none, v2], [], hs)) (fun h => t_Ev (t_pg G) t_hd Y_X6_parseSetup 48 ([some (.ref u), v1, v2], [], h)) hs' := by
  have ul := hF.lt hu
  have ne := ci.ne hu (by decide)
  have xl : xa < hs.2.1 := by obtain ⟨⟨bx, fl, e1, -⟩, -⟩ := ci; exact hF.lt e1
  have hDu : ∀ q, D' q → ¬ q = u := fun q hq z => hD' q hq (Or.inl z)
  have tb := tkT_m (inp := inp) (Nat.zero_le n)
  have t1 := tkT_m (inp := inp) tb.2
  have t2 := tkT_m (inp := inp) t1.2
  obtain ⟨h1, m1, r1⟩ := c_advance (G := G) hF ib h6 (Nat.zero_le n) hu ci
  have z1 := m1.2.1.1
  rw [b_X6_parseSetup_0, kN_at hu, Option.bind_some]
  unfold headS
  by_cases k4 : tkK inp n 0 = 4
  · rw [if_pos k4] at r1
    rw [wrd_k (by omega), ckS_nt]
    exact ⟨h1, 0, none, r1.bV, m1.mu.le (by omega) (by omega)⟩
  rw [if_neg k4] at r1
  obtain ⟨ea, tk1⟩ := r1
  obtain ⟨va1, w1, e1, -, -⟩ := id tk1
  have F1 := m1.2.2.2
  have c1 := ci.mx hF m1 hu (by decide)
  rw [ea, bV_rV, kN_at e1, Option.bind_some]
  obtain ⟨h2, x2, r2⟩ := c_expectWord (G := G) F1 tk1 h6 (Nat.zero_le n) (W.mm hF m1 hDu).trunk (by decide)
  cases cw : wrd inp n 0 wTrunk with
  | false =>
    rw [if_neg (by rw [cw]; decide)] at r2
    rw [ckS_nt]
    exact ⟨h2, 0, none, (r2.le z1).bV, (m1.mu.trans (Mx.u0 x2).mu).le (by omega) (by omega)⟩
  | true =>
  rw [if_pos cw] at r2
  have lt0 := tkT_lt (inp := inp) (Nat.zero_le n) (by rw [wrd_1 cw]; decide)
  rw [ckS_nf, r2.1, bV_rV, kN_at e1, Option.bind_some]
  obtain ⟨h3, m3, r3⟩ := c_number (G := G) F1 ib h6 (Nat.zero_le n) tk1.u c1 (lo := 3) (hi := 8) (by omega) (by omega)
  have z3 := m3.2.1.1
  by_cases g1 : hC inp n 3 8 (tkT inp n 0) = 0
  case neg =>
    rw [if_neg g1] at r3
    rw [nuS_er g1]
    exact ⟨h3, 0, none, (r3.le z1).bI, (m1.mu.trans m3.mu).le (by omega) (by omega)⟩
  rw [if_pos g1] at r3
  have b1 := hC_ok g1
  have lt1 := tkT_lt (inp := inp) tb.2 (by omega)
  obtain ⟨e3', tk3⟩ := r3
  obtain ⟨va3, w3, e3, -, -⟩ := id tk3
  rw [nuS_ok g1, e3', bI_rI]
  generalize tkV inp n (tkT inp n 0) = x at b1 ⊢
  have m13 := m1.trans m3
  have F3 := m3.2.2.2
  obtain ⟨E0, hE0⟩ : ∃ E0 : tEnt, E0 = (true, 2, .inl [.null, .int (iI 0), .int (iI 0), .null, .null, .null, .int (iI 0), .null, .int (iI 0), .int (iI 0), .int (iI 0)]) := ⟨_, rfl⟩
  obtain ⟨h4, q4⟩ : ∃ h4, h4 = t_al h3 E0 11 := ⟨_, rfl⟩
  rw [← hE0, ← q4]
  have x4 : Ex 1 11 h3 h4 := by rw [q4]; exact Ex.al F3
  have s4 : h4.2.1 = h3.2.1 + 1 := by rw [q4]; rfl
  have g4 : h4.1 h3.2.1 = some E0 := by rw [q4]; exact t_up_s
  have m14 := m13.trans (Mx.u0 x4)
  have u4 : h4.1 u = some (pcl .null (tkT inp n (tkT inp n 0)) (tkF inp n (tkT inp n 0)) (cKd (tkK inp n (tkT inp n 0))) va3 w3 xa) := (x4.1 u (by omega) (fun z => z)).trans e3
  have x4e : h4.1 xa = hs.1 xa := m14.1 xa xl ne.1
  rw [gfR_at (k := 6) (q := xa) u4 rfl, Option.bind_some, va_rf_some, gfR_cg x4e, hsv, Option.bind_some, kN_at u4, Option.bind_some]
  obtain ⟨h5, m5, r5⟩ := c_number (G := G) x4.fi ib h6 tb.2 ⟨_, _, _, u4⟩ (ci.mx hF m14 hu (by decide)) (lo := 3) (hi := 8) (by omega) (by omega)
  have z5 := m5.2.1.1
  by_cases g2 : hC inp n 3 8 (tkT inp n (tkT inp n 0)) = 0
  case neg =>
    rw [if_neg g2] at r5
    rw [nuS_er g2]
    exact ⟨h5, 0, none, (r5.le (by omega)).bI, (m14.trans m5).mu.le (by omega) (by omega)⟩
  rw [if_pos g2] at r5
  have b2 := hC_ok g2
  have lt2 := tkT_lt (inp := inp) t1.2 (by omega)
  obtain ⟨e5', tk5⟩ := r5
  obtain ⟨va5, w5, e5, -, -⟩ := id tk5
  rw [nuS_ok g2, e5', bI_rI, va_rf_some]
  generalize tkV inp n (tkT inp n (tkT inp n 0)) = y at b2 ⊢
  have m15 := m14.trans m5
  have g5 : h5.1 h3.2.1 = some E0 := (m5.1 _ (by omega) (by omega)).trans g4
  have kp5 := Kp.mxu hF m15 hu rfl
  obtain ⟨h6', e6, G6, m6, s6⟩ := c_gameInit (G := G) (D := D) (M := M) m5.2.2.2 (g5.trans (congrArg some hE0)) (mz _ (by omega)) (fun q hq => mz q (by omega)) (S.kp kp5) (c_0 := x) (w := y)
  have u6 : h6'.1 u = some (pcl .null (tkT inp n (tkT inp n (tkT inp n 0))) (tkF inp n (tkT inp n (tkT inp n 0))) (cKd (tkK inp n (tkT inp n (tkT inp n 0)))) va5 w5 xa) := (m6.1 u (by omega) mu).trans e5
  rw [e6, bV_rV, pf_at u6 (Nat.le_of_ble_eq_true rfl), Option.bind_some]
  obtain ⟨E7, hE7⟩ : ∃ E7 : tEnt, E7 = pcl (.ref h3.2.1) (tkT inp n (tkT inp n (tkT inp n 0))) (tkF inp n (tkT inp n (tkT inp n 0))) (cKd (tkK inp n (tkT inp n (tkT inp n 0)))) va5 w5 xa := ⟨_, rfl⟩
  obtain ⟨h7, q7⟩ : ∃ h7 : tHS, h7 = (t_up h6'.1 u E7, h6'.2) := ⟨_, rfl⟩
  have m7 : Mx (MU u M) (25 * tkT inp n (tkT inp n (tkT inp n 0)) + 10) (150 * tkT inp n (tkT inp n (tkT inp n 0)) + 300) hs h7 := by
    rw [q7]
    exact ((m15.mu.trans m6.mg).upM u6 (Or.inl rfl)).le (by omega) (by omega)
  have u7 : h7.1 u = some E7 := by rw [q7]; exact t_up_s
  rw [hE7] at u7
  have kp7 : Kp tgG h6'.1 h7.1 := by rw [q7]; exact Kp.up u6 rfl
  have rowE : ∀ j, j < 417 → fU (fU b 0 x) 1 y j = row0 x y j := fun j hj => by
    unfold row0 fU
    rw [b0 j hj]
  have k7 : PGa G D M h7 u xa ia h3.2.1 inp n (tkT inp n (tkT inp n 0)) (fU (fU b 0 x) 1 y) 0 := by
    obtain ⟨⟨bx, fl, i1, q1⟩, bi, qq, i4, q4'⟩ := id ci
    have il := hF.lt i4
    refine ⟨m7.2.2.2, ib, h6, t1.2, ⟨_, _, _, u7⟩, ci.cg (m7.1 xa xl ?_) (m7.1 ia il ?_), (GR.cgR (by decide) G6 (by rw [row0_n (by decide)]; decide) rowE).kp kp7, ((ch.kp kp5).mm m5.2.2.2 m6 mc).kp kp7, mu, mx, mc, mz, dz⟩
    · intro z; rcases z with z | z
      · exact ne.1 z
      · exact mx.1 z
    · intro z; rcases z with z | z
      · exact ne.2 z
      · exact mx.2 z
  rw [show (t_up h6'.1 u (true, 6, .inl ([.null, .int (iI (tkT inp n (tkT inp n (tkT inp n 0)) : Int)), .int (iI (tkF inp n (tkT inp n (tkT inp n 0)) : Int)), .int (iI (cKd (tkK inp n (tkT inp n (tkT inp n 0))))), .int (iI va5), .ref w5, .ref xa].set 0 (.ref h3.2.1))), h6'.2) = h7 by rw [q7, hE7]; rfl]
  rw [show t_up h6'.1 u (true, 6, .inl ([.null, .int (iI (tkT inp n (tkT inp n (tkT inp n 0)) : Int)), .int (iI (tkF inp n (tkT inp n (tkT inp n 0)) : Int)), .int (iI (cKd (tkK inp n (tkT inp n (tkT inp n 0))))), .int (iI va5), .ref w5, .ref xa].set 0 (.ref h3.2.1))) = h7.1 by rw [q7, hE7]; rfl]
  rw [kN_at u7, Option.bind_some]
  obtain ⟨h8, o8⟩ := c_end (hs := h7) (p0 := tkT inp n (tkT inp n 0)) (z := hs.2.1) (c := 0) (d := 0) k7 (Mx.refl k7.fi) m7.2.1.1 (Nat.le_refl _) (by omega) (by omega)
  exact ⟨h8, h3.2.1, some (.int (iI x)), o8.sto m7 t2.2 (Nat.le_refl _)⟩
theorem setB {s : tRow} {p : Nat} (c4 : tkK inp n p = 4) : (thS (blocksS inp n (n + 1) s p) fun b => thS (edgesS inp n (n + 1) b.1 b.2) fun c => thS (playerS inp n 0 c.1 c.2) fun d => playerS inp n 1 d.1 d.2) = .inl (1, tkF inp n p) := by
  rw [blocksS, wrd_k (by omega), if_neg (by decide)]
  unfold thS
  try dsimp only
  rw [edgesS, wrd_k (by omega), if_neg (by decide)]
  try dsimp only
  unfold playerS
  rw [wrd_k (by omega), ckS_nt]
theorem setE {s : tRow} {p : Nat} (c4 : tkK inp n p = 4) : (thS (edgesS inp n (n + 1) s p) fun c => thS (playerS inp n 0 c.1 c.2) fun d => playerS inp n 1 d.1 d.2) = .inl (1, tkF inp n p) := by
  unfold thS
  rw [edgesS, wrd_k (by omega), if_neg (by decide)]
  try dsimp only
  unfold playerS
  rw [wrd_k (by omega), ckS_nt]
theorem setP {s : tRow} {p : Nat} {k : Int} (c4 : tkK inp n p = 4) : playerS inp n k s p = .inl (1, tkF inp n p) := by
  unfold playerS
  rw [wrd_k (by omega), ckS_nt]
theorem c_parseSetup {hs : tHS} {sv wd : Nat} {st kd va : Int} {b : tRow} (hF : Fi hs) (ib : IB inp) (h6 : n ≤ 600) (ci : CI hs.1 xa ia inp n) (hu : hs.1 u = some (pcl .null ((0 : Nat) : Int) st kd va wd xa)) (ch : CH G D hs.1) (hsv : gfR hs.1 (.ref xa) 0 0 = some (some sv)) (S : SV G D hs.1 sv) (mu : ¬ M u) (mx : ¬ M xa ∧ ¬ M ia) (mc : ∀ j, j < 10 → ¬ M (G.1 j)) (mz : ∀ q, u < q → M q) (dz : ∀ q, u < q → D q) (hD' : ∀ q, D' q → ¬ MU u M q) (W : CWd G D' hs.1) (b0 : ∀ j, j < 417 → b j = 0) (bb : RB b) : ∃ hs' a, StO G D M hs u xa ia a inp n 2 (setS inp n b) (t_Ev (t_pg G) t_hd Y_X6_parseSetup 0 ([some (.ref u), none, none], [], hs)) (fun h => rR (some a) h) hs' ∧ ∀ s q, setS inp n b = .inr (s, q) → W0 s := by
  obtain ⟨h1, a, v1, o1⟩ := c_head (v2 := none) hF ib h6 ci hu ch hsv S mu mx mc mz dz hD' W b0
  unfold setS
  cases hr1 : headS inp n b with
  | inl e => rw [hr1] at o1; exact ⟨h1, a, o1, fun s q h => by cases h⟩
  | inr a1 =>
  obtain ⟨s1, p1⟩ := a1
  obtain ⟨w1, q1⟩ := headS_ok b0 bb hr1
  rw [hr1] at o1
  unfold StO at o1
  dsimp only at o1
  rw [show thS (Sum.inr (s1, p1) : PR) (fun a => thS (blocksS inp n (n + 1) a.1 a.2) fun b => thS (edgesS inp n (n + 1) b.1 b.2) fun c => thS (playerS inp n 0 c.1 c.2) fun d => playerS inp n 1 d.1 d.2) = thS (blocksS inp n (n + 1) s1 p1) (fun b => thS (edgesS inp n (n + 1) b.1 b.2) fun c => thS (playerS inp n 0 c.1 c.2) fun d => playerS inp n 1 d.1 d.2) from rfl]
  by_cases c1 : tkK inp n p1 = 4
  · rw [if_pos c1] at o1
    rw [setB c1]
    exact ⟨h1, a, o1, fun s q h => by cases h⟩
  rw [if_neg c1] at o1
  obtain ⟨oe1, ok1, otk1, om1⟩ := o1
  have W1 := W.mm hF om1 hD'
  obtain ⟨h2, o2⟩ := c_blocks (v1 := v1) (v2 := none) hD' (n + 1) (by omega) ok1 otk1 c1 w1 W1 om1
  rw [oe1]
  have bok : ∀ (s' : tRow) (q : Nat), blocksS inp n (n + 1) s1 p1 = .inr (s', q) → W0 s' ∧ q ≤ n := fun s' q h => blocksS_ok (n + 1) q1 w1 h
  cases hr2 : blocksS inp n (n + 1) s1 p1 with
  | inl e => rw [hr2] at o2; exact ⟨h2, a, o2, fun s q h => by cases h⟩
  | inr a2 =>
  obtain ⟨s2, p2⟩ := a2
  obtain ⟨w2, q2⟩ := bok _ _ hr2
  rw [hr2] at o2
  unfold StO at o2
  dsimp only at o2
  rw [show thS (Sum.inr (s2, p2) : PR) (fun b => thS (edgesS inp n (n + 1) b.1 b.2) fun c => thS (playerS inp n 0 c.1 c.2) fun d => playerS inp n 1 d.1 d.2) = thS (edgesS inp n (n + 1) s2 p2) (fun c => thS (playerS inp n 0 c.1 c.2) fun d => playerS inp n 1 d.1 d.2) from rfl]
  by_cases c2 : tkK inp n p2 = 4
  · rw [if_pos c2] at o2
    rw [setE c2]
    exact ⟨h2, a, o2, fun s q h => by cases h⟩
  rw [if_neg c2] at o2
  obtain ⟨oe2, ok2, otk2, om2⟩ := o2
  have W2 := W.mm hF om2 hD'
  obtain ⟨h3, o3⟩ := c_edges (v1 := v1) (v2 := none) hD' (n + 1) (by omega) ok2 otk2 c2 w2 W2 om2
  rw [oe2]
  have eok : ∀ (s' : tRow) (q : Nat), edgesS inp n (n + 1) s2 p2 = .inr (s', q) → W0 s' ∧ q ≤ n := fun s' q h => edgesS_ok (n + 1) q2 w2 h
  cases hr3 : edgesS inp n (n + 1) s2 p2 with
  | inl e => rw [hr3] at o3; exact ⟨h3, a, o3, fun s q h => by cases h⟩
  | inr a3 =>
  obtain ⟨s3, p3⟩ := a3
  obtain ⟨w3, q3⟩ := eok _ _ hr3
  rw [hr3] at o3
  unfold StO at o3
  dsimp only at o3
  rw [show thS (Sum.inr (s3, p3) : PR) (fun c => thS (playerS inp n 0 c.1 c.2) fun d => playerS inp n 1 d.1 d.2) = thS (playerS inp n 0 s3 p3) (fun d => playerS inp n 1 d.1 d.2) from rfl]
  by_cases c3 : tkK inp n p3 = 4
  · rw [if_pos c3] at o3
    rw [setP c3]
    exact ⟨h3, a, o3, fun s q h => by cases h⟩
  rw [if_neg c3] at o3
  obtain ⟨oe3, ok3, otk3, om3⟩ := o3
  have W3 := W.mm hF om3 hD'
  obtain ⟨h4, o4⟩ := c_player1 (v1 := v1) (np := 0) (by decide) ok3 otk3 w3 W3 om3
  rw [oe3]
  have pok := @playerS_ok inp n 0 (Or.inl rfl) s3
  rw [show ((0 : Nat) : Int) = 0 from rfl] at o4
  cases hr4 : playerS inp n 0 s3 p3 with
  | inl e => rw [hr4] at o4; exact ⟨h4, a, o4, fun s q h => by cases h⟩
  | inr a4 =>
  obtain ⟨s4, p4⟩ := a4
  obtain ⟨w4, -, q4⟩ := pok ok3.hp w3 hr4
  rw [hr4] at o4
  unfold StO at o4
  dsimp only at o4
  rw [show thS (Sum.inr (s4, p4) : PR) (fun d => playerS inp n 1 d.1 d.2) = playerS inp n 1 s4 p4 from rfl]
  by_cases c4 : tkK inp n p4 = 4
  · rw [if_pos c4] at o4
    rw [setP c4]
    exact ⟨h4, a, o4, fun s q h => by cases h⟩
  rw [if_neg c4] at o4
  obtain ⟨oe4, ok4, otk4, om4⟩ := o4
  have W4 := W.mm hF om4 hD'
  obtain ⟨h5, o5⟩ := c_player1 (v1 := v1) (np := 1) (by decide) ok4 otk4 w4 W4 om4
  rw [oe4]
  have pok2 := @playerS_ok inp n 1 (Or.inr rfl) s4
  rw [show ((1 : Nat) : Int) = 1 from rfl] at o5
  refine ⟨h5, a, ?_, fun s q h => (pok2 ok4.hp w4 h).1⟩
  rw [show (0 : Int) + 1 = 1 from rfl]
  cases hr5 : playerS inp n 1 s4 p4 with
  | inl e => rw [hr5] at o5; exact o5
  | inr a5 =>
    obtain ⟨s5, p5⟩ := a5
    rw [hr5] at o5
    unfold StO at o5 ⊢
    dsimp only at o5 ⊢
    by_cases c5 : tkK inp n p5 = 4
    · rw [if_pos c5] at o5 ⊢
      exact o5
    · rw [if_neg c5] at o5 ⊢
      refine ⟨?_, o5.2⟩
      obtain ⟨kd5, va5, w5, e5⟩ := o5.2.1.u
      rw [o5.1, b_X6_parseSetup_82, show (1 : Int) + 1 = 2 from rfl, if_neg (by decide), gfR_at (k := 0) (q := a) e5 rfl, Option.bind_some]
      rfl
end SV2
