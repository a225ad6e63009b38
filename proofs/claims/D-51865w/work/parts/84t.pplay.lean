/-! ===== the component's parser: a player ===== -/
section PPL
variable {G : tG} {D D' M : Nat → Prop} {u xa ia a n p0 np : Nat} {inp : Nat → Int} {s : tRow}
theorem PGa.gn {hs h1 : tHS} {s' : tRow} {c d np' : Nat} (k : PGa G D M hs u xa ia a inp n p0 s np) (m : Mx M c d hs h1) (g : GR G D M h1.1 a s' np') : PGa G D M h1 u xa ia a inp n p0 s' np' := by
  obtain ⟨kd, va, w, e⟩ := k.u
  have ul := k.fi.lt e
  obtain ⟨⟨bx, fl, e1, q1⟩, bi, qq, e4, q4⟩ := k.ci
  have xl := k.fi.lt e1
  have il := k.fi.lt e4
  exact ⟨m.2.2.2, k.ib, k.h6, k.hp, ⟨kd, va, w, (m.1 u ul k.mu).trans e⟩, CI.cg k.ci (m.1 xa xl k.mx.1) (m.1 ia il k.mx.2), g, k.ch.mm k.fi m k.mc, k.mu, k.mx, k.mc, k.mz, k.dz⟩
/-- what holds of the row while the player's numbers are read -/
abbrev SupR (s sj : tRow) (np len : Nat) (fw : Nat → Int) : Prop := (∀ j, j < 5 + np * 14 ∨ 33 ≤ j → sj j = s j) ∧ (ofS sj np 0 = 0) ∧ (ofS sj np 7 = (len : Int)) ∧ (∀ j : Nat, j < len → ofS sj np (8 + (j : Nat)) = fw j)
theorem SupR.o {s sj : tRow} {np len : Nat} {fw : Nat → Int} (zz : SupR s sj np len fw) : ∀ j, j < 5 + np * 14 ∨ 33 ≤ j → sj j = s j := zz.1
theorem SupR.a0 {s sj : tRow} {np len : Nat} {fw : Nat → Int} (zz : SupR s sj np len fw) : ofS sj np 0 = 0 := zz.2.1
theorem SupR.a7 {s sj : tRow} {np len : Nat} {fw : Nat → Int} (zz : SupR s sj np len fw) : ofS sj np 7 = (len : Int) := zz.2.2.1
theorem SupR.a8 {s sj : tRow} {np len : Nat} {fw : Nat → Int} (zz : SupR s sj np len fw) : ∀ j : Nat, j < len → ofS sj np (8 + (j : Nat)) = fw j := zz.2.2.2
theorem SupR.set {sj : tRow} {len : Nat} {fw : Nat → Int} (h : SupR s sj np len fw) (hnp : np ≤ 1) {w v : Int} (w1 : 1 ≤ w) (w6 : w ≤ 6) : SupR s (fU sj (plI np w).toNat v) np len fw := by
  refine ⟨fun j hj => ?_, ?_, ?_, fun j hj => ?_⟩
  · exact (fU_n (by unfold plI; omega)).trans (h.o j hj)
  · exact (ofS_fU (by unfold plI; omega)).trans h.a0
  · exact (ofS_fU (by unfold plI; omega)).trans h.a7
  · exact (ofS_fU (by unfold plI; omega)).trans (h.a8 j hj)
theorem c_sup {hs0 hB : tHS} {wd len cB dB : Nat} {fw : Nat → Int} {pB : Nat} (kB : PGa G D M hB u xa ia a inp n pB s np) (hnp : np ≤ 1) (h4 : s 4 ≤ 32) (hl : len ≤ 6) (fwd : ST D hB.1 wd len fw) (mB : Mx (fun q => q = u) cB dB hs0 hB) :
    ∀ (f j : Nat) (sj : tRow) (p : Nat) (hs : tHS) (F : Nat → Int32) (c d : Nat), j + f = 5 → p ≤ n → Mx (fun q => q = u) c d hB hs → cB + c ≤ 20 * (tkT inp n p - tkT inp n p0) → dB + d ≤ 150 * (tkT inp n p - tkT inp n p0) → tkT inp n p0 ≤ tkT inp n p → TKu hs.1 u xa (.ref a) inp n p → hs.1 hB.2.1 = some (true, 0, .inr (5, .inl F)) → (∀ k : Nat, k < j → F k = iI (ofS sj np (2 + (k : Nat)))) → SupR s sj np len fw →
      ∃ hs', Out G D M hs0 u xa ia a inp n p0 (np + 1) hs0.2.1 (supS inp n (np : Int) f j sj (tkT inp n p)) (t_Ev (t_pg G) t_hd Y_X6_parsePlayer 82 ([some (.ref u), some (.ref wd), some (.ref hB.2.1), some (.int (iI (j : Int)))], [], hs)) hs' := by
  obtain ⟨kdB, vaB, wB, eB⟩ := kB.u
  have uB := kB.fi.lt eB
  have zB := mB.2.1.1
  intro f
  induction f with
  | zero =>
    intro j sj p hs F c d hj hp m hc hd hpp tu esu ef R
    have j5 : j = 5 := by omega
    subst j5
    have k := kB.mv m hp tu
    obtain ⟨kd, va, w, e⟩ := tu
    have t0 := tkT_m (inp := inp) hp
    have t1 := tkT_m (inp := inp) t0.2
    have z0 := m.2.1.1
    rw [b_X6_parsePlayer_82, if_neg (by decide), gfR_at (k := 0) (q := a) e rfl, Option.bind_some, kN_at e, Option.bind_some]
    obtain ⟨h1, m1, r1⟩ := c_number (G := G) k.fi k.ib k.h6 k.hp k.tk k.ci (lo := 0) (hi := 9) (by omega) (by omega)
    unfold supS
    by_cases c1 : hC inp n 0 9 (tkT inp n p) = 0
    case neg =>
      rw [if_neg c1] at r1
      rw [nuS_er c1]
      exact ⟨h1, (r1.bI).le (by omega), ((mB.trans m).trans m1).mu.le (by omega) (by omega)⟩
    rw [if_pos c1] at r1
    have b1 := hC_ok c1
    have lt1 := tkT_lt (inp := inp) t0.2 (by omega)
    have mk := m.trans m1
    have k1 := kB.mv mk t0.2 r1.2.u
    obtain ⟨kd1, va1, w1, e1⟩ := k1.u
    have z1 := m1.2.1.1
    rw [nuS_ok c1, r1.1, bI_rI, va_rf_some, k1.gr.k, Option.bind_some]
    generalize tkV inp n (tkT inp n p) = v at b1 ⊢
    have kp := Kp.mxu kB.fi mk eB rfl
    have R' := R.set hnp (w := 1) (v := v) (by decide) (by decide)
    have esu1 : h1.1 hB.2.1 = some (true, 0, .inr (5, .inl F)) := (m1.1 _ (k.fi.lt esu) (by omega)).trans esu
    obtain ⟨h2, q2, g2, m2⟩ := c_addPlayer (G := G) (D := D) (M := M) (s' := fU sj (plI np 1).toNat v) (nm := wd) (st := v) hnp kB.fi kB.gr kp k1.fi (by omega) h4 R'.o (k1.mz _ (by omega)) (Nat.le_refl _) (kB.mz _ uB) esu1 (fun k hk => by rw [ofS_fU (by unfold plI; omega)]; exact ef k hk) (by unfold ofS; exact fU_s) R'.a0 (by rw [R'.a7]; omega) (by rw [R'.a7, Int.toNat_natCast]; exact (fwd.kp kp hl).cg fun j hj => R'.a8 j hj)
    have k2 := k1.gn m2 g2
    obtain ⟨kd2, va2, w2, e2⟩ := k2.u
    rw [q2, bV_rV, kN_at e2, Option.bind_some]
    obtain ⟨h3, o3⟩ := c_end (hs := hs0) (p0 := p0) (z := hs0.2.1) (c := 20 * (tkT inp n (tkT inp n p) - tkT inp n p0)) (d := 150 * (tkT inp n (tkT inp n p) - tkT inp n p0)) k2 (((mB.trans mk).mu.trans m2.mg).le (by omega) (by omega)) (by have := m2.2.1.1; omega) (by omega) (Nat.le_refl _) (Nat.le_refl _)
    exact ⟨h3, o3.bV⟩
  | succ f ih =>
    intro j sj p hs F c d hj hp m hc hd hpp tu esu ef R
    have k := kB.mv m hp tu
    obtain ⟨kd, va, w, e⟩ := tu
    have t0 := tkT_m (inp := inp) hp
    have t1 := tkT_m (inp := inp) t0.2
    have z0 := m.2.1.1
    rw [b_X6_parsePlayer_82, kN_at e, Option.bind_some]
    simp (disch := omega) only [iI_lt]
    rw [if_pos (by omega)]
    obtain ⟨h1, m1, r1⟩ := c_number (G := G) k.fi k.ib k.h6 k.hp k.tk k.ci (lo := 0) (hi := 9) (by omega) (by omega)
    rw [supS]
    by_cases c1 : hC inp n 0 9 (tkT inp n p) = 0
    case neg =>
      rw [if_neg c1] at r1
      rw [nuS_er c1]
      exact ⟨h1, (r1.bI).le (by omega), ((mB.trans m).trans m1).mu.le (by omega) (by omega)⟩
    rw [if_pos c1] at r1
    have b1 := hC_ok c1
    have lt1 := tkT_lt (inp := inp) t0.2 (by omega)
    have mk := m.trans m1
    obtain ⟨kd1, va1, w1, e1⟩ := r1.2.u
    have z1 := m1.2.1.1
    rw [nuS_ok c1, r1.1, bI_rI]
    generalize tkV inp n (tkT inp n p) = v at b1 ⊢
    have esu1 : h1.1 hB.2.1 = some (true, 0, .inr (5, .inl F)) := (m1.1 _ (k.fi.lt esu) (by omega)).trans esu
    rw [stI_at esu1 (by decide) (by omega) (by omega) (by decide), Option.bind_some, Int.toNat_natCast, show iI (j : Int) + iI 1 = iI ((j + 1 : Nat) : Int) from iI_add _ _]
    have m2 := mk.fresh (Mx.up (M := fun q => hB.2.1 ≤ q) (c := 0) (d := 0) (e := (true, 0, .inr (5, .inl (upd F j (t_nar 0 (iI v)))))) m1.2.2.2 esu1 (Nat.le_refl _))
    exact ih (j + 1) (fU sj (plI np (2 + (j : Int))).toNat v) (tkT inp n p) _ (upd F j (t_nar 0 (iI v))) _ _ (by omega) t0.2 m2 (by omega) (by omega) (by omega) ⟨kd1, va1, w1, (t_up_n (by omega)).trans e1⟩ t_up_s (fun k hk => by
      by_cases ck : k = j
      · rw [ck, upd_s]
        unfold ofS
        rw [fU_s]
        rfl
      · rw [upd_n ck, ofS_fU (by unfold plI; omega)]
        exact ef k (by omega)) (R.set hnp (by omega) (by omega))
theorem namP_R (hnp : np ≤ 1) (w : W0 s) {p : Nat} (hl : tkT inp n p - tkF inp n p ≤ 6) : SupR s (namP inp n s (np : Int) p) np (tkT inp n p - tkF inp n p) (fun j => inp (tkF inp n p + j)) := by
  have h01 : np = 0 ∨ np = 1 := by omega
  refine ⟨fun j hj => ?_, ?_, ?_, fun j hj => ?_⟩
  · unfold namP plI
    try dsimp only
    rw [if_neg (by omega), if_neg (by omega)]
  · unfold namP ofS plI
    try dsimp only
    rw [if_neg (by omega), if_neg (by omega)]
    rcases h01 with rfl | rfl
    · exact w.a0
    · exact w.a1
  · unfold namP ofS plI
    try dsimp only
    rw [if_pos (by omega)]
  · unfold namP ofS plI
    try dsimp only
    rw [if_neg (by omega), if_pos (by omega)]
    exact congrArg inp (by omega)
theorem c_parsePlayer {hs : tHS} {z : Nat} (k : PGa G D M hs u xa ia a inp n p0 s np) (tk : TKc hs.1 u xa (.ref a) inp n p0 z) (hnp : np ≤ 1) (w : W0 s) (W : WD D' hs.1 (G.1 41) wPlayer) : ∃ hs', Out G D M hs u xa ia a inp n p0 (np + 1) hs.2.1 (playerS inp n (np : Int) s p0) (t_Ev (t_pg G) t_hd Y_X6_parsePlayer 0 ([some (.ref u), none, none, none], [], hs)) hs' := by
  obtain ⟨kd, va, w0, e⟩ := k.u
  have ul := k.fi.lt e
  have t0 := tkT_m (inp := inp) k.hp
  have t1 := tkT_m (inp := inp) t0.2
  have n4 := w.n4
  rw [b_X6_parsePlayer_0, kN_at e, Option.bind_some]
  obtain ⟨hb, xb, rb⟩ := c_expectWord (G := G) k.fi tk k.h6 k.hp W (by decide)
  unfold playerS
  cases cw : wrd inp n p0 wPlayer with
  | false =>
    rw [if_neg (by rw [cw]; decide)] at rb
    rw [ckS_nt]
    exact ⟨hb, rb.bV, (Mx.u0 xb).mu.le (by omega) (by omega)⟩
  | true =>
  rw [if_pos cw] at rb
  rw [ckS_nf, rb.1, bV_rV, kN_at e, Option.bind_some]
  obtain ⟨h1, m1, r1⟩ := c_advance (G := G) k.fi k.ib k.h6 t0.2 e k.ci
  have z1 := m1.2.1.1
  by_cases k4 : tkK inp n (tkT inp n p0) = 4
  · rw [if_pos k4] at r1
    rw [ckS_t (by rw [decide_eq_false (by omega)]; rfl)]
    exact ⟨h1, r1.bV, m1.mu.le (by omega) (by omega)⟩
  rw [if_neg k4] at r1
  obtain ⟨ea, tk1⟩ := r1
  have k1 := k.mv m1 t0.2 tk1.u
  obtain ⟨va1, w1, e1, -, ew⟩ := id tk1
  rw [ea, bV_rV, kN_at e1, Option.bind_some]
  obtain ⟨h2, x2, r2⟩ := c_expect (G := G) k1.fi tk1 k4 (t := 1) (by decide)
  rw [show cKd 1 = 0 from rfl] at r2
  by_cases kw : tkK inp n (tkT inp n p0) = 1
  case neg =>
    rw [if_neg kw] at r2
    rw [ckS_t (by rw [decide_eq_false kw]; rfl)]
    exact ⟨h2, r2.bV.le z1, (m1.mu.trans (Mx.u0 x2).mu).le (by omega) (by omega)⟩
  rw [if_pos kw] at r2
  have F := ew kw
  have st := F.st
  obtain ⟨vq, g, f1, ⟨b1, b2⟩, f2, f3⟩ := id F
  have lt1 := tkT_lt (inp := inp) t0.2 (by omega)
  have tb := tkT_b (inp := inp) t0.2
  have lw := tb.2.2 (by omega)
  rw [r2.1, bV_rV, gfR_at (k := 5) (q := w1) e1 rfl, Option.bind_some, va_rf_some, kN_at f1, Option.bind_some, c_sLen st, bI_rI]
  simp (disch := omega) only [iI_lt]
  have thr : ∀ c : Int, ∃ hs', PErr c (tkF inp n (tkT inp n p0)) hs.2.1 ((t_kN h1.1 (.ref u) 6).bind fun a_11 => bndR (t_Ev (t_pg G) t_hd Y_X6_error 0 ([some (.ref a_11), some (.int (iI c))], [], h1)) (fun o_13 hs_12 => (t_obj hs_12.1 (va_rf o_13)).bind fun a_14 => some (.inr a_14, hs_12)) tX) hs' ∧ Mx (MU u M) (20 * (n - tkT inp n p0) + 1) (150 * (n - tkT inp n p0) + 8) hs hs' := fun c => by
    obtain ⟨h4, p4, x4⟩ := c_throw (G := G) (c := c) k1.fi e1
    refine ⟨h4, ?_, (m1.mu.trans (Mx.u0 x4).mu).le (by omega) (by omega)⟩
    rw [kN_at e1, Option.bind_some]
    exact p4.le (by omega)
  by_cases c6 : 6 < tkT inp n (tkT inp n p0) - tkF inp n (tkT inp n p0)
  · rw [if_pos (by omega), ckS_t (by rw [decide_eq_true c6, Bool.or_true])]
    obtain ⟨h4, p4, m4⟩ := thr 1
    exact ⟨h4, p4, m4⟩
  rw [if_neg (by omega), ckS_f (by rw [decide_eq_true kw, decide_eq_false c6]; rfl), gfR_at (k := 0) (q := a) e1 rfl, Option.bind_some, va_rf_some, k1.gr.i6, Option.bind_some]
  simp (disch := omega) only [iI_lt]
  -- the numbers
  have go : ∃ hs', Out G D M hs u xa ia a inp n p0 (np + 1) hs.2.1 (supS inp n (np : Int) 5 0 (namP inp n s (np : Int) (tkT inp n p0)) (tkT inp n (tkT inp n p0))) (t_Ev (t_pg G) t_hd Y_X6_parsePlayer 82 ([some (.ref u), some (.ref w1), some (.ref h1.2.1), some (.int (iI 0))], [], t_al h1 (t_arr0 0 5) 5)) hs' := by
    have xa5 : Ex 1 5 h1 (t_al h1 (t_arr0 0 5) 5) := Ex.al k1.fi
    exact c_sup k1 hnp (by omega) (by omega) (st.dm fun q _ hq _ => k.dz q (by omega)) m1 5 0 _ (tkT inp n p0) _ (fun _ => 0) 1 5 rfl t0.2 (Mx.u0 xa5) (by omega) (by omega) (by omega) ⟨_, va1, w1, (xa5.1 u (by omega) (fun z => z)).trans e1⟩ t_up_s (fun k hk => absurd hk (Nat.not_lt_zero k)) (namP_R hnp w (by omega))
  by_cases c0 : np = 0
  · rw [if_neg (by omega), gfR_at (k := 5) (q := w1) e1 rfl, Option.bind_some, ckS_f (by rw [decide_eq_false (by omega)]; rfl), va_rf_some]
    exact go
  · have n1 : np = 1 := by omega
    obtain ⟨pa, b, su, nm, f, g1, g2, g3, g4, g5, g6, g7⟩ := k1.gr.pl (p := 0) (by decide) (by omega) (by omega)
    obtain ⟨-, bb, hv, hz, vq', s1, -⟩ := id g6
    rw [if_pos (by omega)]
    simp only [Option.bind_some, va_rf_some]
    rw [g1]
    simp only [Option.bind_some, va_rf_some]
    rw [g2]
    simp only [Option.bind_some, va_rf_some]
    rw [gfR_at (k := 0) (q := nm) g3 rfl]
    simp only [Option.bind_some, va_rf_some]
    rw [kN_at s1]
    simp only [Option.bind_some, va_rf_some]
    have py := w.py.le 0
    have eq := c_sEq (G := G) g6 st (by omega) (by have := k.h6; omega) (fun j hj => by have := w.py.le 0 (8 + (j : Int)) (Or.inl rfl) (by omega) (by omega); exact this) (fun j hj => by have := tk_let kw (j := tkF inp n (tkT inp n p0) + j) (by omega) (by omega); omega)
    have nq : (decide ((ofS s 0 7).toNat = tkT inp n (tkT inp n p0) - tkF inp n (tkT inp n p0)) && al (fun j => decide (ofS s 0 (8 + (j : Nat)) = inp (tkF inp n (tkT inp n p0) + j))) (ofS s 0 7).toNat) = namQ inp n s (tkT inp n p0) := by
      unfold namQ
      by_cases d : (ofS s 0 7).toNat = tkT inp n (tkT inp n p0) - tkF inp n (tkT inp n p0)
      · rw [decide_eq_true d, decide_eq_true (by omega), d]
      · rw [decide_eq_false d, decide_eq_false (by omega)]; rfl
    rw [nq] at eq
    rw [gfR_at (k := 5) (q := w1) e1 rfl]
    simp only [Option.bind_some, va_rf_some]
    rw [eq, bI_rB]
    simp only [bB_0]
    cases cn : namQ inp n s (tkT inp n p0) with
    | true =>
      rw [if_neg (by decide), ckS_t (by rw [decide_eq_true (by omega)]; rfl)]
      obtain ⟨h4, p4, m4⟩ := thr 4
      exact ⟨h4, p4, m4⟩
    | false =>
      rw [if_pos rfl, ckS_f (by rw [Bool.and_false]), gfR_at (k := 5) (q := w1) e1 rfl, Option.bind_some, va_rf_some]
      exact go
end PPL
