/-! ===== the component: a text played ===== -/
/-- the object at x, wherever its parts lie -/
def XO (G : tG) (D N : Nat → Prop) (h : tAH) (x : Nat) (fi : Nat → Int) (ar : Nat → Nat → Int) : Prop := ∃ sv a ia ow dq sa ea hd gs fs, XC G D N h x sv a ia ow dq sa ea hd gs fs fi ar
/-- the model's numbers are sound -/
abbrev Md (fi : Nat → Int) (ar : Nat → Nat → Int) : Prop := (Wf (ar 0)) ∧ (RB (ar 2)) ∧ (RB (ar 3)) ∧ (0 ≤ fi 6 ∧ fi 6 ≤ 8) ∧ (0 ≤ fi 13 ∧ fi 13 ≤ 600) ∧ (IB (ar 8)) ∧ (∀ k, k < (fi 6).toNat → Wf (sft (ar 2) (417 * k))) ∧ (∀ k, k < 2 → ar 5 k = 1 → Wf (sft (ar 3) (417 * k))) ∧ (∀ k, k < 2 → ar 5 k = 0 ∨ ar 5 k = 1) ∧ (0 ≤ fi 14 ∧ fi 14 ≤ 100) ∧ (∀ j : Nat, (j : Int) < fi 14 → 0 ≤ ar 9 j ∧ ar 9 j ≤ 127)
theorem Md.w {fi : Nat → Int} {ar : Nat → Nat → Int} (zz : Md fi ar) : Wf (ar 0) := zz.1
theorem Md.b2 {fi : Nat → Int} {ar : Nat → Nat → Int} (zz : Md fi ar) : RB (ar 2) := zz.2.1
theorem Md.b3 {fi : Nat → Int} {ar : Nat → Nat → Int} (zz : Md fi ar) : RB (ar 3) := zz.2.2.1
theorem Md.c6 {fi : Nat → Int} {ar : Nat → Nat → Int} (zz : Md fi ar) : 0 ≤ fi 6 ∧ fi 6 ≤ 8 := zz.2.2.2.1
theorem Md.n13 {fi : Nat → Int} {ar : Nat → Nat → Int} (zz : Md fi ar) : 0 ≤ fi 13 ∧ fi 13 ≤ 600 := zz.2.2.2.2.1
theorem Md.ib {fi : Nat → Int} {ar : Nat → Nat → Int} (zz : Md fi ar) : IB (ar 8) := zz.2.2.2.2.2.1
theorem Md.kw {fi : Nat → Int} {ar : Nat → Nat → Int} (zz : Md fi ar) : ∀ k, k < (fi 6).toNat → Wf (sft (ar 2) (417 * k)) := zz.2.2.2.2.2.2.1
theorem Md.sw {fi : Nat → Int} {ar : Nat → Nat → Int} (zz : Md fi ar) : ∀ k, k < 2 → ar 5 k = 1 → Wf (sft (ar 3) (417 * k)) := zz.2.2.2.2.2.2.2.1
theorem Md.f5 {fi : Nat → Int} {ar : Nat → Nat → Int} (zz : Md fi ar) : ∀ k, k < 2 → ar 5 k = 0 ∨ ar 5 k = 1 := zz.2.2.2.2.2.2.2.2.1
theorem Md.o14 {fi : Nat → Int} {ar : Nat → Nat → Int} (zz : Md fi ar) : 0 ≤ fi 14 ∧ fi 14 ≤ 100 := zz.2.2.2.2.2.2.2.2.2.1
theorem Md.o9 {fi : Nat → Int} {ar : Nat → Nat → Int} (zz : Md fi ar) : ∀ j : Nat, (j : Int) < fi 14 → 0 ≤ ar 9 j ∧ ar 9 j ≤ 127 := zz.2.2.2.2.2.2.2.2.2.2
theorem Md.k0 {fi : Nat → Int} {ar : Nat → Nat → Int} (d : Md fi ar) : ar 0 4 ≤ 32 := d.w.bd.np.2
theorem Md.k2 {fi : Nat → Int} {ar : Nat → Nat → Int} (d : Md fi ar) : ∀ k, k < (fi 6).toNat → ar 2 (417 * k + 4) ≤ 32 := fun k hk => (d.kw k hk).bd.np.2
theorem Md.k3 {fi : Nat → Int} {ar : Nat → Nat → Int} (d : Md fi ar) : ∀ k, k < 2 → ar 5 k = 1 → ar 3 (417 * k + 4) ≤ 32 := fun k hk e => (d.sw k hk e).bd.np.2
theorem Md.o199 {fi : Nat → Int} {ar : Nat → Nat → Int} (d : Md fi ar) : (fi 14).toNat ≤ 199 := by have := d.o14; omega
/-- what a text played leaves: the ints, the rows -/
def plyF (r : (Int × Nat) ⊕ (tRow × Int)) (fi : Nat → Int) : Nat → Int := match r with
  | .inl e => fU (fU (fU fi 15 e.1) 16 (e.2 : Int)) 13 0
  | .inr _ => fU (fU (fU (fU fi 15 0) 16 (-1)) 6 (remC (fi 6) + 1)) 13 0
def plyA (r : (Int × Nat) ⊕ (tRow × Int)) (fi : Nat → Int) (ar : Nat → Nat → Int) : Nat → Nat → Int := match r with
  | .inl _ => ar
  | .inr a => aS (aS ar 2 (remK (ar 2) (fi 6) (ar 0))) 0 a.1
section XP
variable {G : tG} {D N : Nat → Prop} {hs : tHS} {x : Nat} {fi : Nat → Int} {ar : Nat → Nat → Int}
theorem WD.dm {D' D2 : Nat → Prop} {h : tAH} {q : Nat} {l : List Int} (hD : ∀ q e, D' q → h q = some e → D2 q) (W : WD D' h q l) : WD D2 h q l := ⟨W.1.dm hD, W.2⟩
theorem CWd.dm {D' D2 : Nat → Prop} {h : tAH} (hD : ∀ q e, D' q → h q = some e → D2 q) (W : CWd G D' h) : CWd G D2 h := ⟨W.bar.dm hD, W.below.dm hD, W.block.dm hD, W.corner.dm hD, W.elbow.dm hD, W.pass.dm hD, W.place.dm hD, W.player.dm hD, W.right.dm hD, W.rod.dm hD, W.square.dm hD, W.strap.dm hD, W.trunk.dm hD⟩
/-- a parser made -/
theorem c_parNew {h : tHS} {u xa b : Nat} (hu : h.1 u = some (true, 6, .inl [.null, .int (iI 0), .int (iI 0), .int (iI 0), .int (iI 0), .null, .null])) : t_Ev (t_pg G) t_hd Y_X6_init 0 ([some (.ref u), some (.ref xa), some (.ref b)], [], h) = rV (t_up h.1 u (pcl (.ref b) ((0 : Nat) : Int) 0 0 0 (G.1 13) xa), h.2) := by
  rw [b_X6_init_0, pf_at hu (Nat.le_of_ble_eq_true rfl), Option.bind_some, pf_at t_up_s (Nat.le_of_ble_eq_true rfl), Option.bind_some, t_up_up, pf_at t_up_s (Nat.le_of_ble_eq_true rfl), Option.bind_some, t_up_up]
  rfl
theorem b_X6_initN (a0 a1 : Nat) (hs : tHS) : t_Ev (t_pg G) t_hd Y_X6_init 0 ([some (.ref a0), some (.ref a1), (some .null)], [], hs) = (pfV hs.1 (.ref a0) 6 6 (.ref a1)).bind fun h_1 => (pfV h_1 (.ref a0) 6 5 (.ref (G.1 13))).bind fun h_2 => (pfV h_2 (.ref a0) 6 0 .null).bind fun h_3 => some (.inl none, (h_3, hs.2)) := Eq.trans (st_al (some a0) (p_X6_init_0 G) rfl) (Eq.trans (st_al (some a1) (p_X6_init_1 G) rfl) (Eq.trans (st_pr (p_X6_init_2 G) rfl) (t_bo (fun h_1 => Eq.trans (st_al (some a0) (p_X6_init_5 G) rfl) (Eq.trans (st_oi (p_X6_init_6 G) rfl) (Eq.trans (st_al (some a0) (p_X6_init_9 G) rfl) (Eq.trans (st_push (p_X6_init_10 G)) (Eq.trans (st_pr (p_X6_init_12 G) rfl) (t_bo (fun h_2 => Eq.trans (st_al (some a0) (p_X6_init_15 G) rfl) (Eq.trans (st_al none (p_X6_init_16 G) rfl) (Eq.trans (st_pr (p_X6_init_17 G) rfl) (t_bo (fun h_3 => st_retv (p_X6_init_20 G)))))))))))))))
theorem c_parNul {h : tHS} {u xa : Nat} (hu : h.1 u = some (true, 6, .inl [.null, .int (iI 0), .int (iI 0), .int (iI 0), .int (iI 0), .null, .null])) : t_Ev (t_pg G) t_hd Y_X6_init 0 ([some (.ref u), some (.ref xa), (some .null)], [], h) = rV (t_up h.1 u (pcl .null ((0 : Nat) : Int) 0 0 0 (G.1 13) xa), h.2) := by
  rw [b_X6_initN, pf_at hu (Nat.le_of_ble_eq_true rfl), Option.bind_some, pf_at t_up_s (Nat.le_of_ble_eq_true rfl), Option.bind_some, t_up_up, pf_at t_up_s (Nat.le_of_ble_eq_true rfl), Option.bind_some, t_up_up]
  rfl
theorem XC.ci {sv a ia ow dq sa ea hd : Nat} {gs : Nat → Nat} {fs : Nat → Option Nat} {n : Nat} {h : tAH} (X : XC G D N h x sv a ia ow dq sa ea hd gs fs fi ar) (h13 : fi 13 = n) : CI h x ia (ar 8) n := by
  obtain ⟨q, i1, i2⟩ := X.ip
  exact ⟨⟨true, _, X.ob, rfl, by rw [h13]; rfl⟩, true, q, i1, fun j hj => i2 j (by omega)⟩
theorem Ex.toN {c d : Nat} {h h' : tHS} (m : Ex c d h h') : Mx N c d h h' := m.mono (fun _ z => absurd z (fun z => z)) (Nat.le_refl _) (Nat.le_refl _)
theorem c_play {n : Nat} (X : XO G D N hs.1 x fi ar) (hF : Fi hs) (md : Md fi ar) (C : CH G D hs.1) {D' : Nat → Prop} (W : CWd G D' hs.1) (hDn : ∀ q, hs.2.1 ≤ q → D q) (h13 : fi 13 = n) : ∃ hs', t_Ev (t_pg G) t_hd Y_X1_play 0 ([some (.ref x), none, none, none, none, none], [], hs) = rI (retS (playS (ar 8) n (ar 0))) hs' ∧ XO G D N hs'.1 x (plyF (playS (ar 8) n (ar 0)) fi) (plyA (playS (ar 8) n (ar 0)) fi ar) ∧ Mx N 16000 91000 hs hs' := by
  obtain ⟨sv, a, ia, ow, dq, sa, ea, hd, gs, fs, X⟩ := X
  have o14 := md.o199
  have n13 := md.n13
  have hn : n ≤ 600 := by omega
  have hT0 := tkT_m (inp := ar 8) (Nat.zero_le n)
  obtain ⟨h1, e1, g1, x1⟩ := c_gameCopy (G := G) hF X.gm hDn md.w.rb md.k0
  rw [b_X1_play_0, gfR_at (k := 1) (q := a) X.ob rfl, Option.bind_some, va_rf_some, X.gm.k, Option.bind_some, bR_ex e1]
  have F1 := x1.fi
  have z1 := x1.2.1.1
  obtain ⟨h2, q2⟩ : ∃ h2, h2 = t_al h1 (true, 6, .inl [.null, .int (iI 0), .int (iI 0), .int (iI 0), .int (iI 0), .null, .null]) 7 := ⟨_, rfl⟩
  have x2 : Ex 1 7 h1 h2 := by rw [q2]; exact Ex.al F1
  have s2 : h2.2.1 = h1.2.1 + 1 := by rw [q2]; rfl
  have u2 : h2.1 h1.2.1 = some (true, 6, .inl [.null, .int (iI 0), .int (iI 0), .int (iI 0), .int (iI 0), .null, .null]) := by rw [q2]; exact t_up_s
  rw [← q2, va_rf_some, c_parNew u2, bV_rV]
  clear q2
  obtain ⟨u, hu⟩ : ∃ u, u = h1.2.1 := ⟨_, rfl⟩
  rw [← hu] at u2 s2 ⊢
  obtain ⟨h3, q3⟩ : ∃ h3 : tHS, h3 = (t_up h2.1 u (pcl (.ref hs.2.1) ((0 : Nat) : Int) 0 0 0 (G.1 13) x), h2.2) := ⟨_, rfl⟩
  have u3 : h3.1 u = some (pcl (.ref hs.2.1) ((0 : Nat) : Int) 0 0 0 (G.1 13) x) := by rw [q3]; exact t_up_s
  have s3 : h3.2.1 = u + 1 := by rw [q3]; exact s2
  have x12 := x1.trans x2
  have x3 : Ex (9 + 1) (255 + 7) hs h3 := by rw [q3]; exact Ex.up x12 u2 (by omega)
  have k13 : Kp tgG h1.1 h3.1 := (Kp.ex F1 x2).trans (by rw [q3]; exact Kp.up u2 rfl)
  rw [← q3]
  clear q3 x2 u2
  have X3 := X.ex hF x3 o14
  have ci3 := X3.ci h13
  rw [kN_at u3, Option.bind_some]
  obtain ⟨h4, m4, r4⟩ := c_advance (G := G) x3.fi md.ib hn (Nat.zero_le n) u3 ci3
  have z4 := m4.2.1.1
  have m4' : Mx (fun q => hs.2.1 ≤ q) (16 * (tkT (ar 8) n 0 - 0)) (100 * (tkT (ar 8) n 0 - 0)) h3 h4 := m4.mono (fun q z => by omega) (Nat.le_refl _) (Nat.le_refl _)
  have x4 : Ex _ _ hs h4 := x3.fresh m4'
  -- an error, reported
  have err : ∀ (c : Int) (o z : Nat) (E : Option tRS) (h5 : tHS) (cc dd : Nat) (ls : tLs) (pc : Nat) (v1 v2 v3 v4 v5 : Option Value), ls = [some (.ref x), v1, v2, v3, v4, v5] → t_hd Y_X1_play pc 13 = some (some 49) → Ex cc dd hs h5 → cc ≤ 16000 → dd ≤ 91000 → PErr c o z E h5 → ∃ e, E = some (.inr e, h5) ∧ ∃ hs', t_thr (t_pg G) t_hd Y_X1_play pc ls e h5 = rI (-1) hs' ∧ XO G D N hs'.1 x (fU (fU (fU fi 15 c) 16 (o : Int)) 13 0) ar ∧ Mx N 16000 91000 hs hs' := by
    intro c o z E h5 cc dd ls pc v1 v2 v3 v4 v5 hls hh x5 hc hd' pe
    obtain ⟨e, pe1, -, pe3⟩ := pe
    refine ⟨e, pe1, ?_⟩
    have X5 := X.ex hF x5 o14
    obtain ⟨h6, e6, X6, m6, y6⟩ := c_report (c := c) (o := (o : Int)) X5 x5.fi o14
    obtain ⟨h7, e7, X7, m7⟩ := c_inLen (c := 0) X6 m6.2.2.2 o14 n13.1
    refine ⟨(h7, h6.2), ?_, ⟨sv, a, ia, ow, dq, sa, ea, hd, gs, fs, X7⟩, ((x5.toN.trans m6).trans m7).le (by omega) (by omega)⟩
    rw [thr_to (kd_at pe3) hh, hls, b_X1_play_49, gfI_at (k := 0) (x := iI c) pe3 rfl, Option.bind_some, gfI_at (k := 1) (x := iI (o : Int)) pe3 rfl, Option.bind_some, kN_at X5.ob, Option.bind_some, e6, bV_rV, e7, Option.bind_some]
    rfl
  unfold playS
  by_cases k4 : tkK (ar 8) n 0 = 4
  · rw [if_pos k4] at r4
    obtain ⟨e, pe, hs', t, r⟩ := err _ _ _ _ _ _ _ [some (.ref x), some (.ref hs.2.1), some (.ref u), none, none, none] 19 _ _ _ _ _ rfl rfl x4 (by omega) (by omega) r4
    rw [cmdsS, if_neg (by omega), cmdS_k (by omega), pe, bndV_thr]
    exact ⟨hs', t, r⟩
  rw [if_neg k4] at r4
  obtain ⟨e4, tk4⟩ := r4
  obtain ⟨va4, w4, u4, -, -⟩ := id tk4
  rw [e4, bV_rV, kN_at u4, Option.bind_some, b_X6_parseCommands_0]
  have xl : x < hs.2.1 := hF.lt X.ob
  have il : ia < hs.2.1 := by obtain ⟨q, i1, -⟩ := X.ip; exact hF.lt i1
  have k14 : Kp tgG h1.1 h4.1 := k13.trans (Kp.mxu x3.fi m4 u3 rfl)
  have P4 : PGa G D (fun q => hs.2.1 ≤ q ∧ q ≠ u) h4 u x ia hs.2.1 (ar 8) n 0 (ar 0) 2 := ⟨x4.fi, md.ib, hn, Nat.zero_le n, tk4.u, ci3.mx x3.fi m4 u3 (by decide), (g1.dm (fun _ _ z _ => z) (fun q e hq he => ⟨hq, by have := F1.lt he; omega⟩)).kp k14, (C.kp (Kp.ex hF x1)).kp k14, fun z => z.2 rfl, ⟨fun z => by omega, fun z => by omega⟩, fun j hj z => by
    have l : G.1 j < hs.2.1 := by
      rcases Nat.lt_or_ge j 5 with c | c
      · obtain ⟨⟨-, b, e⟩, -⟩ := C j c
        exact hF.lt e
      · obtain ⟨-, -, b, f, e, -⟩ := C (j - 5) (by omega)
        rw [show 5 + (j - 5) = j by omega] at e
        exact hF.lt e
    omega, fun q hq => ⟨by omega, by omega⟩, fun q hq => hDn q (by omega)⟩
  have W4 : CWd G (fun q => ¬ MU u (fun q => hs.2.1 ≤ q ∧ q ≠ u) q) h4.1 := (W.dm (D2 := fun q => q < hs.2.1) fun q e _ he => hF.lt he).mm hF x4 (fun _ _ z => z) |>.dm fun q e hq _ z => by rcases z with z | z <;> omega
  obtain ⟨h5, r5⟩ := c_cmds (n + 1) (c := 0) (z := h3.2.1) (by omega) P4 tk4 (by omega) z4 k4 md.w W4
  cases hr : cmdsS (ar 8) n (n + 1) (ar 0) 0 0 with
  | inl er =>
    rw [hr] at r5
    have m5 : Mx (fun q => hs.2.1 ≤ q) _ _ h4 h5 := r5.2.mono (fun q z => by rcases z with z | z <;> omega) (Nat.le_refl _) (Nat.le_refl _)
    obtain ⟨e, pe, hs', t, r⟩ := err _ _ _ _ _ _ _ [some (.ref x), some (.ref hs.2.1), some (.ref u), none, none, none] 23 _ _ _ _ _ rfl rfl (x4.fresh m5) (by omega) (by omega) r5.1
    rw [pe, bndI_thr]
    exact ⟨hs', t, r⟩
  | inr q5 =>
    rw [hr] at r5
    obtain ⟨e5, ⟨p', P5⟩, m5⟩ := r5
    have m5' : Mx (fun q => hs.2.1 ≤ q) _ _ h4 h5 := m5.mono (fun q z => by rcases z with z | z <;> omega) (Nat.le_refl _) (Nat.le_refl _)
    have x5 : Ex _ _ hs h5 := x4.fresh m5'
    have X5 := X.ex hF x5 o14
    obtain ⟨h6, e6, X6, m6, y6⟩ := c_report (c := 0) (o := -1) X5 x5.fi o14
    have k6 : Kp tgG h5.1 h6.1 := y6.yg
    have B6 : GR G D D h6.1 hs.2.1 q5.1 2 := (P5.gr.dm (fun _ _ z _ => z) (fun q e hq _ => hDn q hq.1)).kp k6
    obtain ⟨h7, hd7, gs7, e7, X7, m7⟩ := c_replaceBy X6 m6.2.2.2 o14 (by rw [fU_n (by decide), fU_n (by decide)]; exact md.c6) md.k0 (by rw [fU_n (by decide), fU_n (by decide)]; exact md.k2) B6
    obtain ⟨h8, e8, X8, m8⟩ := c_inLen (c := 0) X7 m7.2.2.2 o14 n13.1
    refine ⟨(h8, h7.2), ?_, ⟨sv, hs.2.1, ia, ow, dq, sa, ea, hd7, gs7, fs, X8⟩, (((x5.toN.trans m6).trans m7).trans m8).le (by omega) (by omega)⟩
    rw [e5, bI_rI, kN_at X5.ob, Option.bind_some, e6, bV_rV, kN_at X6.ob, Option.bind_some, e7, bV_rV, e8, Option.bind_some]
    rfl
end XP
