/-! ===== the component's changes ===== -/
/-- a change's answer, and what it leaves -/
def CM (G : tG) (D N : Nat → Prop) (E : Option tRS) (hs : tHS) (x : Nat) (r : Nat ⊕ Int) (fC : Nat → Int) (aC : Nat → Nat → Int) : Prop := ∃ hs', (match r with
  | .inl κ => ∃ e, E = some (.inr e, hs') ∧ t_kind hs'.1 e = κ
  | .inr v => E = rI v hs') ∧ XO G D N hs'.1 x fC aC ∧ Mx N 1400 5400 hs hs'
/-- the numbers behind a move: kept or as they were -/
def mvF (ok : Bool) (fi : Nat → Int) : Nat → Int := if ok = true then fU fi 6 (remC (fi 6) + 1) else fi
def mvA (ok : Bool) (fi : Nat → Int) (ar : Nat → Nat → Int) (s' : tRow) : Nat → Nat → Int := if ok = true then aS (aS ar 2 (remK (ar 2) (fi 6) (ar 0))) 0 s' else ar
section MU2
variable {G : tG} {D N : Nat → Prop} {hs : tHS} {x sv a ia ow dq sa ea hd : Nat} {gs : Nat → Nat} {fs : Nat → Option Nat} {fi : Nat → Int} {ar : Nat → Nat → Int}
theorem XC.xo {h : tAH} (X : XC G D N h x sv a ia ow dq sa ea hd gs fs fi ar) : XO G D N h x fi ar := ⟨sv, a, ia, ow, dq, sa, ea, hd, gs, fs, X⟩
/-- an exception, the object as it was -/
theorem CM.thr {E : Option tRS} {h : tHS} {κ c d : Nat} (X : XC G D N hs.1 x sv a ia ow dq sa ea hd gs fs fi ar) (hF : Fi hs) (ho : (fi 14).toNat ≤ 199) (m : Ex c d hs h) (hc : c ≤ 1399) (hd' : d ≤ 5394) (he : E = tTh κ h) : CM G D N E hs x (.inl κ) fi ar := by
  have m2 : Ex (c + 1) (d + 6) hs (t_al h (true, κ, .inl []) 6) := m.trans (Ex.al m.2.2.2)
  exact ⟨_, ⟨_, he, th_k⟩, (X.ex hF m2 ho).xo, m2.toN.le (by omega) (by omega)⟩
/-- a game put in the place of the present one -/
theorem CM.mv {E : Option tRS} {h : tHS} {b c d : Nat} {s' : tRow} {v : Int} {K : tHS → Option tRS} {Xc : Nat → tHS → Option tRS} (X : XC G D N hs.1 x sv a ia ow dq sa ea hd gs fs fi ar) (hF : Fi hs) (md : Md fi ar) (m : Ex c d hs h) (hc : c ≤ 1400) (hd' : d ≤ 5400) (B : GR G D D h.1 b s' 2) (hK : ∀ h', K h' = rI v h') (hE : E = bndV (t_Ev (t_pg G) t_hd Y_X1_replaceBy 0 ([some (.ref x), some (.ref b)], [], h)) K Xc) : CM G D N E hs x (.inr v) (mvF true fi) (mvA true fi ar s') := by
  have X1 := X.ex hF m md.o199
  obtain ⟨h2, hd2, gs2, e2, X2, m2⟩ := c_replaceBy X1 m.2.2.2 md.o199 md.c6 md.k0 md.k2 B
  exact ⟨h2, by show E = rI v h2; rw [hE, e2, bV_rV, hK], X2.xo, (m.toN.trans m2).le (by omega) (by omega)⟩
theorem hd_pl {k : Nat} (h : k = 15 ∨ k = 17) : t_hd Y_X1_place 6 k = some none := by
  rcases h with rfl | rfl <;> rfl
theorem a_place (X : XC G D N hs.1 x sv a ia ow dq sa ea hd gs fs fi ar) (hF : Fi hs) (md : Md fi ar) (C : CH G D hs.1) (hDn : ∀ q, hs.2.1 ≤ q → D q) {sh r u w : Int} (h1 : InR sh) (h2 : InR r) (h3 : InR u) (h4 : InR w) :
    CM G D N (t_Ev (t_pg G) t_hd Y_X1_place 0 ([some (.ref x), some (.int (iI sh)), some (.int (iI r)), some (.int (iI u)), some (.int (iI w)), none, none, none], [], hs)) hs x (plR (ar 0) sh r u w (if mayP (ar 0) sh r u w = true then .inr (pts (ar 0) sh r w) else .inl 16)) (mvF ((isB sh 0 4 && isB r 0 3) && (inB (ar 0) u w && mayP (ar 0) sh r u w)) fi) (mvA ((isB sh 0 4 && isB r 0 3) && (inB (ar 0) u w && mayP (ar 0) sh r u w)) fi ar (plc (ar 0) sh r u w)) := by
  have p := c_placement (G := G) X hF md h1 h2 h3 h4
  have o := md.o199
  rw [b_X1_place_0, X.kx, Option.bind_some]
  unfold plR
  cases c1 : (isB sh 0 4 && isB r 0 3) with
  | false =>
    rw [if_neg (by rw [c1]; decide)] at p
    rw [p, bndR_thr, thr_up th_k (hd_pl (Or.inl rfl))]
    exact CM.thr X hF o (Mx.refl hF) (Nat.zero_le _) (Nat.zero_le _) rfl
  | true =>
  rw [if_pos c1] at p
  rw [if_pos rfl, Bool.true_and]
  rw [Bool.and_eq_true] at c1
  have b1 := isB_iff.mp c1.1
  have b2 := isB_iff.mp c1.2
  cases c3 : inB (ar 0) u w with
  | false =>
    rw [if_neg (by rw [c3]; decide)] at p
    rw [p, bndR_thr, thr_up th_k (hd_pl (Or.inr rfl))]
    exact CM.thr X hF o (Mx.refl hF) (Nat.zero_le _) (Nat.zero_le _) rfl
  | true =>
  rw [if_pos c3] at p
  obtain ⟨h, e, m, z⟩ := p
  have b3 := inB_7 md.w.bd.dm c3
  have z1 := m.2.1.1
  have X' := X.ex hF m o
  obtain ⟨h2, e2, g2, x2⟩ := c_gameCopy (G := G) m.2.2.2 X'.gm (fun q hq => hDn q (by omega)) md.w.rb md.k0
  have z2 := x2.2.1.1
  have C2 := (C.kp (Kp.ex hF m)).kp (Kp.ex m.2.2.2 x2)
  have zz : h2.1 hs.2.1 = _ := (x2.1 _ (m.2.2.2.lt z) (fun z => z)).trans z
  have pt := c_put (G := G) g2 C2 ⟨hDn _ (Nat.le_refl _), zz⟩ x2.2.2.2 (hDn _ (by omega)) md.w.bd.dm md.w.rb md.w.py.mv.2 (fun hm => md.w.bd.p31 b1.1 b1.2 b2.1 b2.2 hm) b1.1 b1.2 b2.1 b2.2 b3.1 b3.2
  rw [if_pos rfl, Bool.true_and, bR_ex e, X'.g1, Option.bind_some, va_rf_some, X'.gm.k, Option.bind_some, bR_ex e2, va_rf_some, g2.k, Option.bind_some, va_rf_some]
  cases cm : mayP (ar 0) sh r u w with
  | false =>
    rw [if_neg (by rw [cm]; decide)] at pt
    have x3 := x2.trans (Ex.al (e := (true, 14, .inl [])) (n := 6) x2.2.2.2)
    rw [pt, bndI_thr, thr_to (pc' := 38) th_k rfl, b_X1_place_38, ob16, Option.bind_some, thr_up th_k rfl]
    exact CM.thr X hF o (m.trans x3) (by decide) (by decide) rfl
  | true =>
    rw [if_pos cm] at pt
    obtain ⟨h3, e3, g3, m3⟩ := pt
    have x3 : Ex _ _ h h3 := x2.fresh m3
    have x4 := m.trans x3
    have X4 := X.ex hF x4 o
    rw [e3, bI_rI, X4.kx, Option.bind_some]
    exact CM.mv X hF md x4 (by decide) (by decide) (g3.dm (fun _ _ z _ => z) (fun q e hq _ => hDn q (by omega))) (fun _ => rfl) rfl
theorem hd_fs {k pc : Nat} (h : k = 15 ∨ k = 17) (hp : pc = 4) : t_hd Y_X1_fastenStrap pc k = some none := by
  subst hp
  rcases h with rfl | rfl <;> rfl
/-- an answer that asks for an edge -/
def egR (s : tRow) (u w d : Int) (v : Nat ⊕ Int) : Nat ⊕ Int := if isB d 0 1 = true then (if isEd s u w d = true then v else .inl 17) else .inl 15
theorem a_fasten (X : XC G D N hs.1 x sv a ia ow dq sa ea hd gs fs fi ar) (hF : Fi hs) (md : Md fi ar) (hDn : ∀ q, hs.2.1 ≤ q → D q) {u w d : Int} (h1 : InR u) (h2 : InR w) (h3 : InR d) :
    CM G D N (t_Ev (t_pg G) t_hd Y_X1_fastenStrap 0 ([some (.ref x), some (.int (iI u)), some (.int (iI w)), some (.int (iI d)), none, none], [], hs)) hs x (egR (ar 0) u w d (if mayF (ar 0) u w d = true then .inr (ofS (ar 0) (ar 0 2) 1 - 1) else .inl 16)) (mvF (isB d 0 1 && (isEd (ar 0) u w d && mayF (ar 0) u w d)) fi) (mvA (isB d 0 1 && (isEd (ar 0) u w d && mayF (ar 0) u w d)) fi ar (fas (ar 0) u w d)) := by
  have o := md.o199
  have ce := c_checkEdge (G := G) X md h1 h2 h3
  rw [b_X1_fastenStrap_0, X.kx, Option.bind_some]
  unfold egR
  cases c1 : isB d 0 1 with
  | false =>
    rw [if_neg (by rw [c1]; decide)] at ce
    rw [ce, bndV_thr, thr_up th_k (hd_fs (Or.inl rfl) rfl)]
    exact CM.thr X hF o (Mx.refl hF) (Nat.zero_le _) (Nat.zero_le _) rfl
  | true =>
  rw [if_pos c1] at ce
  rw [if_pos rfl, Bool.true_and]
  have bd := isB_iff.mp c1
  cases c2 : isEd (ar 0) u w d with
  | false =>
    rw [if_neg (by rw [c2]; decide)] at ce
    rw [ce, bndV_thr, thr_up th_k (hd_fs (Or.inr rfl) rfl)]
    exact CM.thr X hF o (Mx.refl hF) (Nat.zero_le _) (Nat.zero_le _) rfl
  | true =>
  rw [if_pos c2] at ce
  obtain ⟨h2, e2, g2, x2⟩ := c_gameCopy (G := G) hF X.gm hDn md.w.rb md.k0
  have z2 := x2.2.1.1
  have pt := c_fasten (G := G) g2 x2.2.2.2 md.w.bd.dm md.w.rb md.w.py.mv.2 bd c2
  rw [if_pos rfl, Bool.true_and, ce, bV_rV, X.g1, Option.bind_some, va_rf_some, X.gm.k, Option.bind_some, bR_ex e2, va_rf_some, g2.k, Option.bind_some]
  cases cm : mayF (ar 0) u w d with
  | false =>
    rw [if_neg (by rw [cm]; decide)] at pt
    have x3 := x2.trans (Ex.al (e := (true, 14, .inl [])) (n := 6) x2.2.2.2)
    rw [pt, bndI_thr, thr_to (pc' := 35) th_k rfl, b_X1_fastenStrap_35, ob16, Option.bind_some, thr_up th_k rfl]
    exact CM.thr X hF o x3 (by decide) (by decide) rfl
  | true =>
    rw [if_pos cm] at pt
    obtain ⟨h3, e3, g3, m3⟩ := pt
    have x3 : Ex _ _ hs h3 := x2.fresh m3
    have X4 := X.ex hF x3 o
    rw [e3, bI_rI, X4.kx, Option.bind_some]
    exact CM.mv X hF md x3 (by decide) (by decide) (g3.dm (fun _ _ z _ => z) (fun q e hq _ => hDn q (by omega))) (fun _ => rfl) rfl
theorem a_pass (X : XC G D N hs.1 x sv a ia ow dq sa ea hd gs fs fi ar) (hF : Fi hs) (md : Md fi ar) (C : CH G D hs.1) (hDn : ∀ q, hs.2.1 ≤ q → D q) :
    CM G D N (t_Ev (t_pg G) t_hd Y_X1_pass 0 ([some (.ref x), none, none], [], hs)) hs x (if mayS (ar 0) = true then .inr (ar 0 3 + 1) else .inl 16) (mvF (mayS (ar 0)) fi) (mvA (mayS (ar 0)) fi ar (pas (ar 0))) := by
  have o := md.o199
  obtain ⟨h2, e2, g2, x2⟩ := c_gameCopy (G := G) hF X.gm hDn md.w.rb md.k0
  have z2 := x2.2.1.1
  have C2 := C.kp (Kp.ex hF x2)
  have pt := c_skip (G := G) g2 C2 x2.2.2.2 md.w.bd.dm md.w.rb md.w.py.mv.2
  rw [b_X1_pass_0, X.g1, Option.bind_some, va_rf_some, X.gm.k, Option.bind_some, bR_ex e2, va_rf_some, g2.k, Option.bind_some]
  cases cm : mayS (ar 0) with
  | false =>
    rw [if_neg (by rw [cm]; decide)] at pt
    obtain ⟨h3, e3, m3⟩ := pt
    have x3 := (x2.trans m3).trans (Ex.al (e := (true, 14, .inl [])) (n := 6) m3.2.2.2)
    rw [e3, bndI_thr, thr_to (pc' := 20) th_k rfl, b_X1_pass_20, ob16, Option.bind_some, thr_up th_k rfl]
    exact CM.thr X hF o x3 (by decide) (by decide) rfl
  | true =>
    rw [if_pos cm] at pt
    obtain ⟨h3, e3, g3, m3⟩ := pt
    have x3 : Ex _ _ hs h3 := x2.fresh m3
    have X4 := X.ex hF x3 o
    rw [e3, bI_rI, X4.kx, Option.bind_some]
    exact CM.mv X hF md x3 (by decide) (by decide) (g3.dm (fun _ _ z _ => z) (fun q e hq _ => hDn q (by omega))) (fun _ => rfl) rfl
/-- the last change taken back -/
theorem a_undo (X : XC G D N hs.1 x sv a ia ow dq sa ea hd gs fs fi ar) (hF : Fi hs) (md : Md fi ar) :
    CM G D N (t_Ev (t_pg G) t_hd Y_X1_undo 0 ([some (.ref x)], [], hs)) hs x (if fi 6 = 0 then .inl 16 else .inr (fi 6 - 1)) (if fi 6 = 0 then fi else fU fi 6 (fi 6 - 1)) (if fi 6 = 0 then ar else aS ar 0 (sft (ar 2) (417 * (fi 6 - 1).toNat))) := by
  have o := md.o199
  have c6 := md.c6
  obtain ⟨n1, n2, n3, n4, n5, n6, n7, n8, n9, n10⟩ := X.nq
  obtain ⟨fe, e2, -⟩ := X.dk.e2
  rw [b_X1_undo_0, gfR_at (k := 7) (q := dq) X.ob rfl, Option.bind_some, va_rf_some, kN_at X.dk.e1, Option.bind_some, c_dqEmpty X.dk, bI_rB]
  simp only [bB_0]
  by_cases c0 : fi 6 = 0
  · rw [if_neg (by rw [c0]; decide), if_pos c0, if_pos c0, if_pos c0, ob16, Option.bind_some]
    exact CM.thr X hF o (Mx.refl hF) (Nat.zero_le _) (Nat.zero_le _) rfl
  · rw [if_pos (decide_eq_false (by omega)), if_neg c0, if_neg c0, if_neg c0, gfR_at (k := 7) (q := dq) X.ob rfl, Option.bind_some, va_rf_some, kN_at X.dk.e1, Option.bind_some]
    obtain ⟨h1, e1, d1, m1⟩ := c_removeLast (G := G) X.dk hF (by omega)
    have k1 : Kp tgY hs.1 h1.1 := Kp.mxN hF m1 fun q e hq he => by
      rcases hq with rfl | rfl
      · rw [X.dk.e1] at he; cases he; rfl
      · rw [e2] at he; cases he; rfl
    have old : ∀ {q : Nat} {e : tEnt}, hs.1 q = some e → q ≠ dq → q ≠ ea → h1.1 q = some e := fun hq z1 z2 => (m1.1 _ (hF.lt hq) (fun z => by rcases z with z | z; exact z1 z; exact z2 z)).trans hq
    have ob1 := old X.ob n2 n3
    have sg1 := old X.sg n9.symm n10.symm
    obtain ⟨q, i1, i2⟩ := X.ip
    have ip1 := old i1 n5 n6
    have gk := (X.kg ((fi 6).toNat - 1) (by omega)).kp k1.yg
    obtain ⟨gfl, ge⟩ := gk.aa
    obtain ⟨E1, hE1⟩ : ∃ E1 : tEnt, E1 = (true, 0, .inl [.ref sv, .ref (gs ((fi 6).toNat - 1)), .ref ia, .int (iI (fi 13)), .int (iI (fi 15)), .int (iI (fi 16)), .ref ow, .ref dq, .ref sa]) := ⟨_, rfl⟩
    have ky := k1.trans (Kp.up (T := tgY) (e := E1) ob1 rfl)
    have d2 : DQ (t_up h1.1 x E1) dq ea hd ((fi 6).toNat - 1) gs := d1.cg (t_up_n n2.symm) (t_up_n n3.symm)
    have c6' : (fU fi 6 (fi 6 - 1) 6).toNat = (fi 6).toNat - 1 := by rw [fU_s]; omega
    have A0 : aS ar 0 (sft (ar 2) (417 * (fi 6 - 1).toNat)) 0 = sft (ar 2) (417 * (fi 6 - 1).toNat) := aS_s
    have A2 : aS ar 0 (sft (ar 2) (417 * (fi 6 - 1).toNat)) 2 = ar 2 := aS_n (by decide)
    have A3 : aS ar 0 (sft (ar 2) (417 * (fi 6 - 1).toNat)) 3 = ar 3 := aS_n (by decide)
    have A5 : aS ar 0 (sft (ar 2) (417 * (fi 6 - 1).toNat)) 5 = ar 5 := aS_n (by decide)
    have A8 : aS ar 0 (sft (ar 2) (417 * (fi 6 - 1).toNat)) 8 = ar 8 := aS_n (by decide)
    have A9 : aS ar 0 (sft (ar 2) (417 * (fi 6 - 1).toNat)) 9 = ar 9 := aS_n (by decide)
    have X2 : XC G D N (t_up h1.1 x E1) x sv (gs ((fi 6).toNat - 1)) ia ow dq sa ea hd gs fs (fU fi 6 (fi 6 - 1)) (aS ar 0 (sft (ar 2) (417 * (fi 6 - 1).toNat))) := by
      refine ⟨t_up_s.trans (by rw [hE1]; rfl), X.sh.kp ky.yg, by rw [A0, show (fi 6 - 1).toNat = (fi 6).toNat - 1 by omega]; exact (X.kg ((fi 6).toNat - 1) (by omega)).kp ky.yg, ⟨q, (t_up_n n1.symm).trans ip1, fun j hj => by rw [A8]; exact i2 j hj⟩, by rw [A9]; exact X.ou.kpY ky o, by rw [c6']; exact d2, fun k hk => ?_, (t_up_n n4.symm).trans sg1, fun k hk => ?_, X.nx⟩
      · rw [c6'] at hk
        rw [A2]
        exact (X.kg k (by omega)).kp ky.yg
      · rw [A5, A3]
        refine ⟨fun e => ?_, (X.sl k hk).2⟩
        obtain ⟨g, g1, g2⟩ := (X.sl k hk).1 e
        exact ⟨g, g1, g2.kp ky.yg⟩
    have m2 : Mx N 0 0 hs (t_up h1.1 x E1, h1.2) := (m1.mono (fun q hq => by rcases hq with rfl | rfl; exact X.nx.2.2.1; exact X.nx.2.2.2.1) (Nat.le_refl _) (Nat.le_refl _)).upM ob1 X.nx.1
    refine ⟨(t_up h1.1 x E1, h1.2), ?_, X2.xo, m2.le (by decide) (by decide)⟩
    show _ = rI (fi 6 - 1) _
    rw [bR_ex e1, va_rf_some, isK_at ge, Option.bind_some, va_rf_some, pf_at ob1 (Nat.le_of_ble_eq_true rfl), Option.bind_some]
    rw [show (true, 0, .inl (([.ref sv, .ref a, .ref ia, .int (iI (fi 13)), .int (iI (fi 15)), .int (iI (fi 16)), .ref ow, .ref dq, .ref sa] : List Value).set 1 (.ref (gs ((fi 6).toNat - 1))))) = E1 from hE1.symm]
    rw [gfR_at (k := 7) (q := dq) (t_up_s.trans (congrArg some hE1)) rfl, Option.bind_some, va_rf_some, kN_at d2.e1, Option.bind_some, c_dqSize (hs := (t_up h1.1 x E1, h1.2)) d2, bI_rI]
    exact rI_cg (by omega)
end MU2
