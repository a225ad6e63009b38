/-! ===== the component: a text loaded ===== -/
theorem cmdsS_wf {inp : Nat → Int} {n : Nat} : ∀ (f : Nat) {s : tRow} {p : Nat} {c : Int} {a : tRow × Int}, p ≤ n → Wf s → cmdsS inp n f s p c = .inr a → Wf a.1 := by
  intro f
  induction f with
  | zero => intro s p c a hp w h; rw [cmdsS] at h; cases h; exact w
  | succ f ih =>
    intro s p c a hp w h
    rw [cmdsS] at h
    by_cases c0 : tkK inp n p = 0
    · rw [if_pos c0] at h; cases h; exact w
    · rw [if_neg c0] at h
      cases hr : cmdS inp n s p with
      | inl e => rw [hr] at h; cases h
      | inr b =>
        obtain ⟨s', q⟩ := b
        rw [hr] at h
        obtain ⟨w', -, qn⟩ := cmdS_ok hp c0 w hr
        exact ih qn w' h
theorem empS_rb {s : tRow} (h : RB s) : RB (empS s) := fun j => by
  unfold empS
  split
  · exact ⟨Int.le_refl 0, by decide⟩
  · exact h j
section XL
variable {G : tG} {D N : Nat → Prop} {hs : tHS} {x : Nat} {fi : Nat → Int} {ar : Nat → Nat → Int}
theorem c_emptyCells {h : tHS} {sv a ia ow dq sa ea hd : Nat} {gs : Nat → Nat} {fs : Nat → Option Nat} (X : XC G D N h.1 x sv a ia ow dq sa ea hd gs fs fi ar) (hD : Dm (ar 0)) (hB : RB (ar 0)) : t_Ev (t_pg G) t_hd Y_X1_emptyCells 0 ([some (.ref x)], [], h) = rI (emA (ar 0)) h := by
  rw [b_X1_emptyCells_0, gfR_at (k := 1) (q := a) X.ob rfl, Option.bind_some, va_rf_some, X.gm.k, Option.bind_some, c_cellsWith X.gm hD (fun t h0 h1 => enc_m1 h0 h1) hB, bI_rI, cwN_0]
  rfl
theorem c_load {n : Nat} (X : XO G D N hs.1 x fi ar) (hF : Fi hs) (md : Md fi ar) (C : CH G D hs.1) {D' : Nat → Prop} (W : CWd G D' hs.1) (hDn : ∀ q, hs.2.1 ≤ q → D q) (h13 : fi 13 = n) : ∃ hs', t_Ev (t_pg G) t_hd Y_X1_load 0 ([some (.ref x), none, none, none, none], [], hs) = rI (retL (loadS (ar 8) n (empS (ar 0)))) hs' ∧ XO G D N hs'.1 x (plyF (loadS (ar 8) n (empS (ar 0))) fi) (plyA (loadS (ar 8) n (empS (ar 0))) fi ar) ∧ Mx N 31000 182000 hs hs' := by
  obtain ⟨sv, a, ia, ow, dq, sa, ea, hd, gs, fs, X⟩ := X
  have o14 := md.o199
  have n13 := md.n13
  have hn : n ≤ 600 := by omega
  obtain ⟨u, hu⟩ : ∃ u, u = hs.2.1 := ⟨_, rfl⟩
  obtain ⟨h1, q1⟩ : ∃ h1, h1 = t_al hs (true, 6, .inl [.null, .int (iI 0), .int (iI 0), .int (iI 0), .int (iI 0), .null, .null]) 7 := ⟨_, rfl⟩
  have x1 : Ex 1 7 hs h1 := by rw [q1]; exact Ex.al hF
  have s1 : h1.2.1 = u + 1 := by rw [q1, hu]; rfl
  have u1 : h1.1 u = some (true, 6, .inl [.null, .int (iI 0), .int (iI 0), .int (iI 0), .int (iI 0), .null, .null]) := by rw [q1, hu]; exact t_up_s
  rw [b_X1_load_0, ← q1, ← hu, c_parNul u1, bV_rV]
  clear q1
  obtain ⟨h2, q2⟩ : ∃ h2 : tHS, h2 = (t_up h1.1 u (pcl .null ((0 : Nat) : Int) 0 0 0 (G.1 13) x), h1.2) := ⟨_, rfl⟩
  have u2 : h2.1 u = some (pcl .null ((0 : Nat) : Int) 0 0 0 (G.1 13) x) := by rw [q2]; exact t_up_s
  have x2 : Ex 1 7 hs h2 := by rw [q2]; exact Ex.up x1 u1 (by omega)
  have s2 : h2.2.1 = u + 1 := by rw [q2]; exact s1
  rw [← q2]
  clear q2 u1 x1 s1
  have X2 := X.ex hF x2 o14
  have xl : x < hs.2.1 := hF.lt X.ob
  have il : ia < hs.2.1 := by obtain ⟨q, i1, -⟩ := X.ip; exact hF.lt i1
  have gl : ∀ j, j < 10 → G.1 j < hs.2.1 := fun j hj => by
    rcases Nat.lt_or_ge j 5 with c | c
    · obtain ⟨⟨-, b, e⟩, -⟩ := C j c
      exact hF.lt e
    · obtain ⟨-, -, b, f, e, -⟩ := C (j - 5) (by omega)
      rw [show 5 + (j - 5) = j by omega] at e
      exact hF.lt e
  have hD' : ∀ q, q < hs.2.1 → ¬ MU u (fun q => u < q) q := fun q hq z => by rcases z with z | z <;> omega
  have W2 : CWd G (fun q => q < hs.2.1) h2.1 := (W.dm (D2 := fun q => q < hs.2.1) fun q e _ he => hF.lt he).mm hF x2 (fun _ _ z => z)
  obtain ⟨h3, a3, o3, w3⟩ := c_parseSetup (G := G) (D := D) (M := fun q => u < q) (b := empS (ar 0)) x2.fi md.ib hn (X2.ci h13) u2 (C.kp (Kp.ex hF x2)) (gfR_at X2.ob rfl) X2.sh (Nat.lt_irrefl u) ⟨by omega, by omega⟩ (fun j hj => by have := gl j hj; omega) (fun q hq => hq) (fun q hq => hDn q (by omega)) hD' W2 (fun j hj => if_pos hj) (empS_rb md.w.rb)
  -- an error, reported
  have err : ∀ (c : Int) (o z : Nat) (E : Option tRS) (h5 : tHS) (cc dd : Nat) (ls : tLs) (pc : Nat) (v1 v2 v3 v4 : Option Value), ls = [some (.ref x), v1, v2, v3, v4] → t_hd Y_X1_load pc 13 = some (some 43) → Ex cc dd hs h5 → cc ≤ 31000 → dd ≤ 182000 → PErr c o z E h5 → ∃ e, E = some (.inr e, h5) ∧ ∃ hs', t_thr (t_pg G) t_hd Y_X1_load pc ls e h5 = rI (-1) hs' ∧ XO G D N hs'.1 x (fU (fU (fU fi 15 c) 16 (o : Int)) 13 0) ar ∧ Mx N 31000 182000 hs hs' := by
    intro c o z E h5 cc dd ls pc v1 v2 v3 v4 hls hh x5 hc hd' pe
    obtain ⟨e, pe1, -, pe3⟩ := pe
    refine ⟨e, pe1, ?_⟩
    have X5 := X.ex hF x5 o14
    obtain ⟨h6, e6, X6, m6, -⟩ := c_report (c := c) (o := (o : Int)) X5 x5.fi o14
    obtain ⟨h7, e7, X7, m7⟩ := c_inLen (c := 0) X6 m6.2.2.2 o14 n13.1
    refine ⟨(h7, h6.2), ?_, ⟨sv, a, ia, ow, dq, sa, ea, hd, gs, fs, X7⟩, ((x5.toN.trans m6).trans m7).le (by omega) (by omega)⟩
    rw [thr_to (kd_at pe3) hh, hls, b_X1_load_43, gfI_at (k := 0) (x := iI c) pe3 rfl, Option.bind_some, gfI_at (k := 1) (x := iI (o : Int)) pe3 rfl, Option.bind_some, kN_at X5.ob, Option.bind_some, e6, bV_rV, e7, Option.bind_some]
    rfl
  have toX : ∀ {c d : Nat} {h h' : tHS}, Mx (MU u (fun q => u < q)) c d h h' → Mx (fun q => hs.2.1 ≤ q) c d h h' := fun m => m.mono (fun q z => by rcases z with z | z <;> omega) (Nat.le_refl _) (Nat.le_refl _)
  rw [kN_at u2, Option.bind_some]
  unfold loadS
  cases hr3 : setS (ar 8) n (empS (ar 0)) with
  | inl er =>
    rw [hr3] at o3
    have x3 : Ex _ _ hs h3 := x2.fresh (toX o3.2)
    obtain ⟨e, pe, hs', t, r⟩ := err _ _ _ _ _ _ _ [some (.ref x), some (.ref u), none, none, none] 11 _ _ _ _ rfl rfl x3 (by omega) (by omega) o3.1
    rw [pe, bndR_thr]
    exact ⟨hs', t, r⟩
  | inr a4 =>
  obtain ⟨s3, p3⟩ := a4
  rw [hr3] at o3
  unfold StO at o3
  dsimp only at o3
  rw [show thS (Sum.inr (s3, p3) : PR) (fun a => cmdsS (ar 8) n (n + 1) a.1 a.2 0) = cmdsS (ar 8) n (n + 1) s3 p3 0 from rfl]
  by_cases k4 : tkK (ar 8) n p3 = 4
  · rw [if_pos k4] at o3
    have x3 : Ex _ _ hs h3 := x2.fresh (toX o3.2)
    obtain ⟨e, pe, hs', t, r⟩ := err _ _ _ _ _ _ _ [some (.ref x), some (.ref u), none, none, none] 11 _ _ _ _ rfl rfl x3 (by omega) (by omega) o3.1
    rw [cmdsS, if_neg (by omega), cmdS_k (by omega), pe, bndR_thr]
    exact ⟨hs', t, r⟩
  rw [if_neg k4] at o3
  obtain ⟨e3, P3, tk3, m3⟩ := o3
  have x3 : Ex _ _ hs h3 := x2.fresh (toX m3)
  have hT := tkT_m (inp := ar 8) P3.hp
  obtain ⟨kd3, va3, w3', u3⟩ := P3.u
  have W3 : CWd G (fun q => ¬ MU u (fun q => u < q) q) h3.1 := (W2.mm x2.fi (toX m3) fun q hq z => by omega) |>.dm fun q e hq _ => hD' q hq
  have ww := (w3 s3 p3 hr3).wf
  rw [e3, bR_rR, kN_at u3, Option.bind_some, b_X6_parseCommands_0]
  obtain ⟨h5, r5⟩ := c_cmds (n + 1) (c := 0) (z := h2.2.1) (by omega) P3 tk3 (by omega) m3.2.1.1 k4 ww W3
  cases hr : cmdsS (ar 8) n (n + 1) s3 p3 0 with
  | inl er =>
    rw [hr] at r5
    have x5 : Ex _ _ hs h5 := x3.fresh (toX r5.2)
    obtain ⟨e, pe, hs', t, r⟩ := err _ _ _ _ _ _ _ [some (.ref x), some (.ref u), some (.ref a3), none, none] 16 _ _ _ _ rfl rfl x5 (by omega) (by omega) r5.1
    rw [pe, bndI_thr]
    exact ⟨hs', t, r⟩
  | inr q5 =>
    have wq := cmdsS_wf (n + 1) P3.hp ww hr
    rw [hr] at r5
    obtain ⟨e5, ⟨p', P5⟩, m5⟩ := r5
    have x5 : Ex _ _ hs h5 := x3.fresh (toX m5)
    have X5 := X.ex hF x5 o14
    obtain ⟨h6, e6, X6, m6, y6⟩ := c_report (c := 0) (o := -1) X5 x5.fi o14
    have B6 : GR G D D h6.1 a3 q5.1 2 := (P5.gr.dm (fun _ _ z _ => z) (fun q e hq _ => hDn q (by omega))).kp y6.yg
    obtain ⟨h7, hd7, gs7, e7, X7, m7⟩ := c_replaceBy X6 m6.2.2.2 o14 (by rw [fU_n (by decide), fU_n (by decide)]; exact md.c6) md.k0 (by rw [fU_n (by decide), fU_n (by decide)]; exact md.k2) B6
    obtain ⟨h8, e8, X8, m8⟩ := c_inLen (c := 0) X7 m7.2.2.2 o14 n13.1
    have ec := c_emptyCells (h := h7) X7 wq.bd.dm wq.rb
    refine ⟨(h8, h7.2), ?_, ⟨sv, a3, ia, ow, dq, sa, ea, hd7, gs7, fs, X8⟩, (((x5.toN.trans m6).trans m7).trans m8).le (by omega) (by omega)⟩
    rw [e5, bI_rI, kN_at X5.ob, Option.bind_some, e6, bV_rV, kN_at X6.ob, Option.bind_some, va_rf_some, e7, bV_rV, kN_at X7.ob, Option.bind_some, ec, bI_rI, e8, Option.bind_some]
    rfl
end XL
