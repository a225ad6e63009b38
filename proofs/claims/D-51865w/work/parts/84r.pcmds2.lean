/-! ===== the component's parser: all commands ===== -/
/-- the parser's words -/
abbrev CWd (G : tG) (D : Nat → Prop) (h : tAH) : Prop := (WD D h (G.1 23) wBar) ∧ (WD D h (G.1 25) wBelow) ∧ (WD D h (G.1 27) wBlock) ∧ (WD D h (G.1 31) wCorner) ∧ (WD D h (G.1 33) wElbow) ∧ (WD D h (G.1 37) wPass) ∧ (WD D h (G.1 39) wPlace) ∧ (WD D h (G.1 41) wPlayer) ∧ (WD D h (G.1 43) wRight) ∧ (WD D h (G.1 45) wRod) ∧ (WD D h (G.1 47) wSquare) ∧ (WD D h (G.1 49) wStrap) ∧ (WD D h (G.1 51) wTrunk)
theorem CWd.bar {G : tG} {D : Nat → Prop} {h : tAH} (zz : CWd G D h) : WD D h (G.1 23) wBar := zz.1
theorem CWd.below {G : tG} {D : Nat → Prop} {h : tAH} (zz : CWd G D h) : WD D h (G.1 25) wBelow := zz.2.1
theorem CWd.block {G : tG} {D : Nat → Prop} {h : tAH} (zz : CWd G D h) : WD D h (G.1 27) wBlock := zz.2.2.1
theorem CWd.corner {G : tG} {D : Nat → Prop} {h : tAH} (zz : CWd G D h) : WD D h (G.1 31) wCorner := zz.2.2.2.1
theorem CWd.elbow {G : tG} {D : Nat → Prop} {h : tAH} (zz : CWd G D h) : WD D h (G.1 33) wElbow := zz.2.2.2.2.1
theorem CWd.pass {G : tG} {D : Nat → Prop} {h : tAH} (zz : CWd G D h) : WD D h (G.1 37) wPass := zz.2.2.2.2.2.1
theorem CWd.place {G : tG} {D : Nat → Prop} {h : tAH} (zz : CWd G D h) : WD D h (G.1 39) wPlace := zz.2.2.2.2.2.2.1
theorem CWd.player {G : tG} {D : Nat → Prop} {h : tAH} (zz : CWd G D h) : WD D h (G.1 41) wPlayer := zz.2.2.2.2.2.2.2.1
theorem CWd.right {G : tG} {D : Nat → Prop} {h : tAH} (zz : CWd G D h) : WD D h (G.1 43) wRight := zz.2.2.2.2.2.2.2.2.1
theorem CWd.rod {G : tG} {D : Nat → Prop} {h : tAH} (zz : CWd G D h) : WD D h (G.1 45) wRod := zz.2.2.2.2.2.2.2.2.2.1
theorem CWd.square {G : tG} {D : Nat → Prop} {h : tAH} (zz : CWd G D h) : WD D h (G.1 47) wSquare := zz.2.2.2.2.2.2.2.2.2.2.1
theorem CWd.strap {G : tG} {D : Nat → Prop} {h : tAH} (zz : CWd G D h) : WD D h (G.1 49) wStrap := zz.2.2.2.2.2.2.2.2.2.2.2.1
theorem CWd.trunk {G : tG} {D : Nat → Prop} {h : tAH} (zz : CWd G D h) : WD D h (G.1 51) wTrunk := zz.2.2.2.2.2.2.2.2.2.2.2.2
theorem kd_at {h : tAH} {a k : Nat} {b : Bool} {c : List Value ⊕ vp_A} (e : h a = some (b, k, c)) : t_kind h a = k := by unfold t_kind; rw [e]
theorem thr_up {G : tG} {y pc k a : Nat} {ls : tLs} {hs : tHS} (hk : t_kind hs.1 a = k) (hh : t_hd y pc k = some none) : t_thr (t_pg G) t_hd y pc ls a hs = some (.inr a, hs) := by unfold t_thr; rw [hk, hh]
theorem thr_to {G : tG} {y pc k a pc' : Nat} {ls : tLs} {hs : tHS} (hk : t_kind hs.1 a = k) (hh : t_hd y pc k = some (some pc')) : t_thr (t_pg G) t_hd y pc ls a hs = t_Ev (t_pg G) t_hd y pc' (ls, [.ref a], hs) := by unfold t_thr; rw [hk, hh]
theorem PErr.hV {c : Int} {o z : Nat} {r : Option tRS} {hs' : tHS} (p : PErr c o z r hs') {K : tHS → Option tRS} {X : Nat → tHS → Option tRS} (hX : ∀ e, t_kind hs'.1 e = 13 → X e hs' = some (.inr e, hs')) : PErr c o z (bndV r K X) hs' := by
  obtain ⟨e, e1, e2, e3⟩ := p
  exact ⟨e, by rw [e1, bndV_thr, hX e (kd_at e3)], e2, e3⟩
theorem WD.mm {h0 h1 : tHS} {c d q : Nat} {l : List Int} {D' N : Nat → Prop} (hF : Fi h0) (m : Mx N c d h0 h1) (hD : ∀ q, D' q → ¬ N q) (W : WD D' h0.1 q l) : WD D' h1.1 q l := by
  obtain ⟨⟨d1, b, hv, hz, vq, g1, d2, b', g, g2, g3⟩, hl⟩ := W
  exact ⟨⟨d1, b, hv, hz, vq, (m.1 q (hF.lt g1) (hD _ d1)).trans g1, d2, b', g, (m.1 vq (hF.lt g2) (hD _ d2)).trans g2, g3⟩, hl⟩
theorem CWd.mm {G : tG} {h0 h1 : tHS} {c d : Nat} {D' N : Nat → Prop} (hF : Fi h0) (m : Mx N c d h0 h1) (hD : ∀ q, D' q → ¬ N q) (W : CWd G D' h0.1) : CWd G D' h1.1 :=
  ⟨W.bar.mm hF m hD, W.below.mm hF m hD, W.block.mm hF m hD, W.corner.mm hF m hD, W.elbow.mm hF m hD, W.pass.mm hF m hD, W.place.mm hF m hD, W.player.mm hF m hD, W.right.mm hF m hD, W.rod.mm hF m hD, W.square.mm hF m hD, W.strap.mm hF m hD, W.trunk.mm hF m hD⟩
theorem wrd_k {inp : Nat → Int} {n p : Nat} {l : List Int} (h : tkK inp n p ≠ 1) : wrd inp n p l = false := by unfold wrd; rw [decide_eq_false h]; rfl
theorem cmdS_k {inp : Nat → Int} {n p : Nat} {s : tRow} (h : tkK inp n p ≠ 1) : cmdS inp n s p = .inl (1, tkF inp n p) := by
  unfold cmdS
  rw [wrd_k h, wrd_k h, wrd_k h]
  rfl
section CC
variable {G : tG} {D D' M : Nat → Prop} {u xa ia a n : Nat} {inp : Nat → Int}
theorem CO.pre {h0 h1 hs' : tHS} {p0 z : Nat} {s : tRow} {r : PR} {E : Option tRS} (m : Mx (MU u M) 0 0 h0 h1) (o : CO G D M h1 u xa ia a inp n p0 z s r E hs') : CO G D M h0 u xa ia a inp n p0 z s r E hs' := by
  rcases o with ⟨e, er, pe, mm⟩ | ⟨q, er, ee, k2, le, mm⟩ | ⟨q, s', er, ee, k2, le, mm⟩
  · exact Or.inl ⟨e, er, pe, (m.trans mm).le (by omega) (by omega)⟩
  · exact Or.inr (Or.inl ⟨q, er, ee, k2, le, (m.trans mm).le (by omega) (by omega)⟩)
  · exact Or.inr (Or.inr ⟨q, s', er, ee, k2, le, (m.trans mm).le (by omega) (by omega)⟩)
theorem c_parseCommand {hs : tHS} {p0 z : Nat} {s : tRow} (k : PGa G D M hs u xa ia a inp n p0 s 2) (tk : TKc hs.1 u xa (.ref a) inp n p0 z) (h1 : tkK inp n p0 = 1) (uz : u < z) (w : Wf s) (W : CWd G D' hs.1) : ∃ hs', CO G D M hs u xa ia a inp n p0 hs.2.1 s (cmdS inp n s p0) (t_Ev (t_pg G) t_hd Y_X6_parseCommand 0 ([some (.ref u), none, none, none, none, none], [], hs)) hs' := by
  obtain ⟨wd, vq0, hv, hz, zw, ew, m, e⟩ := c_cmdWord (G := G) k.fi tk h1 k.h6 k.hp W.place W.strap W.pass
  have k2 := k.hw (hv := hv) (hz := hz) ew
  have m2 : Mx (MU u M) 0 0 hs (t_up hs.1 wd (hwE vq0 hv hz), hs.2) := m.mono (fun q hq => Or.inr (k.mz q (by omega))) (Nat.le_refl _) (Nat.le_refl _)
  rw [e]
  unfold cmdS cmdI
  by_cases c0 : wrd inp n p0 wPlace = true
  · rw [if_pos c0, if_pos c0]
    obtain ⟨h', o⟩ := c_cmdPlace k2 w (W.bar.hw ew) (W.elbow.hw ew) (W.rod.hw ew) (W.square.hw ew) (W.corner.hw ew) (v1 := some (.ref wd)) (v3 := none) (v4 := none) (v5 := none)
    exact ⟨h', CO.pre m2 o⟩
  by_cases c1 : wrd inp n p0 wStrap = true
  · rw [if_neg c0, if_pos c1, if_neg c0, if_pos c1]
    obtain ⟨h', o⟩ := c_cmdStrap k2 w.bd.dm w.rb w.py.mv.2 (W.right.hw ew) (W.below.hw ew) (v1 := some (.ref wd)) (v3 := none) (v4 := none) (v5 := none)
    exact ⟨h', CO.pre m2 o⟩
  by_cases c2 : wrd inp n p0 wPass = true
  · rw [if_neg c0, if_neg c1, if_neg c0, if_neg c1, if_pos c2, ckS_f (by rw [c2]; rfl)]
    obtain ⟨h', o⟩ := c_cmdPass k2 w.bd.dm w.rb w.py.mv.2 (v1 := some (.ref wd)) (v3 := none) (v4 := none) (v5 := none)
    exact ⟨h', CO.pre m2 o⟩
  · obtain ⟨kd2, va2, w2, e2⟩ := k2.u
    rw [if_neg c0, if_neg c1, if_neg c0, if_neg c1, if_neg c2, ckS_t (by rw [Bool.eq_false_iff.mpr c2]; rfl), b_X6_parseCommand_83, if_neg (by decide), if_neg (by decide), if_neg (by decide), kN_at e2, Option.bind_some]
    obtain ⟨h3, p3, x3⟩ := c_throw (G := G) (c := 1) k2.fi e2
    exact ⟨h3, Or.inl ⟨_, rfl, p3, (m2.trans (Mx.u0 x3).mu).le (by omega) (by omega)⟩⟩
/-- what the commands have done -/
def CmC (G : tG) (D M : Nat → Prop) (hs : tHS) (u xa ia a : Nat) (inp : Nat → Int) (n p : Nat) (r : (Int × Nat) ⊕ (tRow × Int)) (E : Option tRS) (hs' : tHS) : Prop := match r with
  | .inl e => PErr e.1 e.2 hs.2.1 E hs' ∧ Mx (MU u M) (25 * (n - tkT inp n p) + 10) (150 * (n - tkT inp n p) + 40) hs hs'
  | .inr q => E = rI q.2 hs' ∧ (∃ p', PGa G D M hs' u xa ia a inp n p' q.1 2) ∧ Mx (MU u M) (25 * (n - tkT inp n p) + 10) (150 * (n - tkT inp n p) + 40) hs hs'
theorem CmC.pre {h0 h1 hs' : tHS} {p p' c d : Nat} {r : (Int × Nat) ⊕ (tRow × Int)} {E : Option tRS} (m : Mx (MU u M) c d h0 h1) (hp : tkT inp n p ≤ tkT inp n p') (hn : tkT inp n p' ≤ n) (hc : c ≤ 25 * (tkT inp n p' - tkT inp n p)) (hd : d ≤ 150 * (tkT inp n p' - tkT inp n p)) (o : CmC G D M h1 u xa ia a inp n p' r E hs') : CmC G D M h0 u xa ia a inp n p r E hs' := by
  have z := m.2.1.1
  cases r with
  | inl e => exact ⟨o.1.le z, (m.trans o.2).le (by omega) (by omega)⟩
  | inr q => exact ⟨o.1, o.2.1, (m.trans o.2.2).le (by omega) (by omega)⟩
theorem c_cmds : ∀ (f : Nat) {hs : tHS} {s : tRow} {p z : Nat} {c : Int}, n + 1 ≤ p + f → PGa G D M hs u xa ia a inp n p s 2 → TKc hs.1 u xa (.ref a) inp n p z → u < z → z ≤ hs.2.1 → tkK inp n p ≠ 4 → Wf s → CWd G (fun q => ¬ MU u M q) hs.1 → ∃ hs', CmC G D M hs u xa ia a inp n p (cmdsS inp n f s p c) (t_Ev (t_pg G) t_hd Y_X6_parseCommands 2 ([some (.ref u), some (.int (iI c)), none], [], hs)) hs' := by
  intro f
  induction f with
  | zero =>
    intro hs s p z c hf k
    have := k.hp
    omega
  | succ f ih =>
    intro hs s p z c hf k tk uz zs h4 w W
    obtain ⟨va, wd, e1, -, -⟩ := id tk
    have hk := tkK_b (inp := inp) (n := n) (p := p)
    have bk := cKd_b (a := tkK inp n p)
    have t0 := tkT_m (inp := inp) k.hp
    rw [b_X6_parseCommands_2, gfI_at (k := 3) (x := iI (cKd (tkK inp n p))) e1 rfl, Option.bind_some, cmdsS]
    by_cases c0 : tkK inp n p = 0
    · rw [if_pos c0, c0, show cKd 0 = 3 from rfl, if_pos rfl]
      exact ⟨hs, rfl, ⟨p, k⟩, Mx.refl k.fi⟩
    have c3 : ¬ iI (cKd (tkK inp n p)) = iI 3 := by
      rw [show (3 : Int) = cKd 0 from rfl, iI_inj (by omega) (by omega) (by decide) (by decide), cKd_inj (by omega) (by decide)]
      exact c0
    rw [if_neg c0, if_neg c3, kN_at e1, Option.bind_some]
    obtain ⟨hb, xb, rb⟩ := c_expect (G := G) k.fi tk h4 (t := 1) (by decide)
    rw [show cKd 1 = 0 from rfl] at rb
    by_cases c1 : tkK inp n p = 1
    case neg =>
      rw [if_neg c1] at rb
      rw [cmdS_k c1]
      exact ⟨hb, rb.hV fun e hk => thr_up hk rfl, (Mx.u0 xb).mu.le (by omega) (by omega)⟩
    rw [if_pos c1] at rb
    rw [rb.1, bV_rV, kN_at e1, Option.bind_some]
    obtain ⟨h2, o⟩ := c_parseCommand k tk c1 uz w W
    rcases o with ⟨e, er, pe, m⟩ | ⟨q, er, ⟨ex, ee, ek⟩, k2, le, m⟩ | ⟨q, s', er, ee, k2, le, m⟩
    · rw [er]
      exact ⟨h2, pe.hV fun e hk => thr_up hk rfl, m.le (by omega) (by omega)⟩
    · obtain ⟨kd2, va2, w2, e2⟩ := k2.u
      have t2 := tkT_m (inp := inp) k2.hp
      rw [er, ee, bndV_thr, thr_to (pc' := 22) (kd_at ek) rfl, b_X6_parseCommands_22, kN_at e2, Option.bind_some]
      have z2 := m.2.1.1
      rw [bR_ex (c_error (G := G) (c := 6) k2.fi e2)]
      have ho : t_obj (t_al h2 (true, 13, .inl [.int (iI 6), .int (iI (tkF inp n q : Int))]) 8).1 (va_rf (some h2.2.1)) = some h2.2.1 := by
        simp only [va_rf_some, t_obj, al_1, t_up_s]
        exact if_pos (by decide)
      have hk3 : (t_al h2 (true, 13, .inl [.int (iI 6), .int (iI (tkF inp n q : Int))]) 8).1 h2.2.1 = some (true, 13, .inl [.int (iI 6), .int (iI (tkF inp n q : Int))]) := t_up_s
      rw [ho, Option.bind_some, thr_up (kd_at hk3) rfl]
      have x3 : Ex 1 8 h2 (t_al h2 (true, 13, .inl [.int (iI 6), .int (iI (tkF inp n q : Int))]) 8) := Ex.al k2.fi
      exact ⟨_, ⟨h2.2.1, rfl, by omega, hk3⟩, (m.trans (Mx.u0 x3).mu).le (by omega) (by omega)⟩
    · obtain ⟨kd2, va2, w2, e2⟩ := k2.u
      have t2 := tkT_m (inp := inp) k2.hp
      have t3 := tkT_m (inp := inp) t2.2
      have t4 := tkT_m (inp := inp) t3.2
      have z2 := m.2.1.1
      rw [ee, bV_rV, kN_at e2, Option.bind_some]
      obtain ⟨h3, m3, r3⟩ := c_endSt (G := G) k2.fi k2.ib k2.h6 k2.hp k2.tk k2.ci
      have z3 := m3.2.1.1
      unfold endS at er
      by_cases g3 : tkK inp n (tkT inp n q) = 3
      case neg =>
        rw [if_neg g3] at r3
        rw [ckS_t (by rw [decide_eq_false g3]; rfl)] at er
        rw [er]
        exact ⟨h3, (r3.le z2).hV fun e hk => thr_up hk rfl, (m.trans m3.mu).le (by omega) (by omega)⟩
      rw [if_pos g3] at r3
      rw [ckS_f (by rw [decide_eq_true g3]; rfl)] at er
      have lt3 := tkT_lt (inp := inp) t2.2 (by omega)
      have ok := cmdS_ok k.hp c0 w er
      rw [er]
      try dsimp only
      by_cases g4 : tkK inp n (tkT inp n (tkT inp n q)) = 4
      · rw [if_pos g4] at r3
        have es : cmdsS inp n f s' (tkT inp n (tkT inp n q)) (c + 1) = .inl (1, tkF inp n (tkT inp n (tkT inp n q))) := by
          obtain ⟨f', hf'⟩ : ∃ f', f = f' + 1 := ⟨f - 1, by omega⟩
          rw [hf', cmdsS, if_neg (by omega), cmdS_k (by omega)]
        rw [es]
        exact ⟨h3, (r3.le z2).hV fun e hk => thr_up hk rfl, (m.trans m3.mu).le (by omega) (by omega)⟩
      · rw [if_neg g4] at r3
        rw [r3.1, bV_rV, show iI c + iI 1 = iI (c + 1) from iI_add _ _]
        have mm := m.trans (m3.mu (M := M))
        obtain ⟨h5, o5⟩ := ih (hs := h3) (s := s') (z := z) (c := c + 1) (by omega) (k2.mv m3 t3.2 r3.2.u) (r3.2.z (by omega)) uz (by omega) g4 ok.1 (W.mm k.fi mm fun q hq => hq)
        exact ⟨h5, o5.pre mm (by omega) (by omega) (by omega) (by omega)⟩
end CC
