/-! ===== the component's slots ===== -/
section MU4
variable {G : tG} {D N : Nat → Prop} {hs : tHS} {x sv a ia ow dq sa ea hd : Nat} {gs : Nat → Nat} {fs : Nat → Option Nat} {fi : Nat → Int} {ar : Nat → Nat → Int}
theorem a_save (X : XC G D N hs.1 x sv a ia ow dq sa ea hd gs fs fi ar) (hF : Fi hs) (md : Md fi ar) (hDn : ∀ q, hs.2.1 ≤ q → D q) {k : Int} (h1 : InR k) :
    CM G D N (t_Ev (t_pg G) t_hd Y_X1_save 0 ([some (.ref x), some (.int (iI k))], [], hs)) hs x (if isB k 0 1 = true then .inr (ar 0 4) else .inl 15) fi (if isB k 0 1 = true then aS (aS ar 3 (savK (ar 3) k (ar 0))) 5 (fU (ar 5) k.toNat 1) else ar) := by
  have o := md.o199
  rw [b_X1_save_0, X.kx, Option.bind_some, c_checkRange h1 (by omega) (by omega)]
  cases c : isB k 0 1 with
  | false =>
    rw [if_neg (by decide), if_neg (by decide), if_neg (by decide), bndV_thr]
    exact CM.thr X hF o (Mx.refl hF) (Nat.zero_le _) (Nat.zero_le _) rfl
  | true =>
  have bk := isB_iff.mp c
  obtain ⟨kn, hkn⟩ : ∃ kn : Nat, k = (kn : Int) := ⟨k.toNat, by omega⟩
  subst hkn
  rw [if_pos rfl, if_pos rfl, if_pos rfl, bV_rV]
  obtain ⟨h2, e2, g2, x2⟩ := c_gameCopy (G := G) hF X.gm hDn md.w.rb md.k0
  have X2 := X.ex hF x2 o
  obtain ⟨n1, n2, n3, n4, n5, n6, n7, n8, n9, n10⟩ := X2.nq
  have B2 : GR G D D h2.1 hs.2.1 (ar 0) 2 := g2.dm (fun _ _ z _ => z) (fun q e hq _ => hDn q hq)
  obtain ⟨bfl, be⟩ := B2.aa
  obtain ⟨E1, hE1⟩ : ∃ E1 : tEnt, E1 = (true, 6, .inr (2, rfs (va_up fs kn (some hs.2.1)))) := ⟨_, rfl⟩
  have ky : Kp tgY h2.1 (t_up h2.1 sa E1) := Kp.up X2.sg rfl
  obtain ⟨q, i1, i2⟩ := X2.ip
  have A0 : aS (aS ar 3 (savK (ar 3) kn (ar 0))) 5 (fU (ar 5) kn 1) 0 = ar 0 := (aS_n (by decide)).trans (aS_n (by decide))
  have A2 : aS (aS ar 3 (savK (ar 3) kn (ar 0))) 5 (fU (ar 5) kn 1) 2 = ar 2 := (aS_n (by decide)).trans (aS_n (by decide))
  have A3 : aS (aS ar 3 (savK (ar 3) kn (ar 0))) 5 (fU (ar 5) kn 1) 3 = savK (ar 3) kn (ar 0) := (aS_n (by decide)).trans aS_s
  have A5 : aS (aS ar 3 (savK (ar 3) kn (ar 0))) 5 (fU (ar 5) kn 1) 5 = fU (ar 5) kn 1 := aS_s
  have A8 : aS (aS ar 3 (savK (ar 3) kn (ar 0))) 5 (fU (ar 5) kn 1) 8 = ar 8 := (aS_n (by decide)).trans (aS_n (by decide))
  have A9 : aS (aS ar 3 (savK (ar 3) kn (ar 0))) 5 (fU (ar 5) kn 1) 9 = ar 9 := (aS_n (by decide)).trans (aS_n (by decide))
  have X3 : XC G D N (t_up h2.1 sa E1) x sv a ia ow dq sa ea hd gs (va_up fs kn (some hs.2.1)) fi (aS (aS ar 3 (savK (ar 3) kn (ar 0))) 5 (fU (ar 5) kn 1)) := by
    refine ⟨(t_up_n n4).trans X2.ob, X2.sh.kp ky.yg, by rw [A0]; exact X2.gm.kp ky.yg, ⟨q, (t_up_n n7).trans i1, fun j hj => by rw [A8]; exact i2 j hj⟩, by rw [A9]; exact X2.ou.kpY ky o, X2.dk.cg (t_up_n n9) (t_up_n n10), fun k hk => by rw [A2]; exact (X2.kg k hk).kp ky.yg, t_up_s.trans (by rw [hE1]), fun j hj => ?_, X2.nx⟩
    rw [A5, A3]
    by_cases cj : j = kn
    · subst cj
      refine ⟨fun _ => ⟨hs.2.1, va_up_s, (B2.kp ky.yg).cgR (by decide) md.k0 fun j' hj' => savK_s hj'⟩, fun z => absurd fU_s z⟩
    · rw [fU_n cj, va_up_n cj]
      refine ⟨fun e => ?_, (X2.sl j hj).2⟩
      obtain ⟨g, g1, g2'⟩ := (X2.sl j hj).1 e
      exact ⟨g, g1, (g2'.kp ky.yg).cgR (by decide) (md.k3 j hj e) fun j' hj' => savK_n cj hj'⟩
  refine ⟨(t_up h2.1 sa E1, h2.2), ?_, X3.xo, (x2.toN.upM X2.sg X2.nx.2.2.2.2).le (by decide) (by decide)⟩
  show _ = rI (ar 0 4) _
  rw [gfR_at (k := 8) (q := sa) X.ob rfl, Option.bind_some, X.g1, Option.bind_some, va_rf_some, X.gm.k, Option.bind_some, bR_ex e2, va_rf_some, va_rf_some, stR_at X2.sg (isK_at be) bk.1 (by omega) (by decide), Option.bind_some, Int.toNat_natCast, ← hE1]
  have X3g : gfR (t_up h2.1 sa E1) (.ref x) 0 1 = some (some a) := gfR_at X3.ob rfl
  have h8 := X3.gm.i8
  rw [A0] at h8
  rw [X3g, Option.bind_some, va_rf_some, h8]
  rfl
theorem a_restore (X : XC G D N hs.1 x sv a ia ow dq sa ea hd gs fs fi ar) (hF : Fi hs) (md : Md fi ar) (hDn : ∀ q, hs.2.1 ≤ q → D q) {k : Int} (h1 : InR k) :
    CM G D N (t_Ev (t_pg G) t_hd Y_X1_restore 0 ([some (.ref x), some (.int (iI k))], [], hs)) hs x (if isB k 0 1 = true then (if ar 5 k.toNat = 1 then .inr (ar 3 (417 * k.toNat + 4)) else .inl 16) else .inl 15) (mvF (isB k 0 1 && decide (ar 5 k.toNat = 1)) fi) (mvA (isB k 0 1 && decide (ar 5 k.toNat = 1)) fi ar (sft (ar 3) (417 * k.toNat))) := by
  have o := md.o199
  rw [b_X1_restore_0, X.kx, Option.bind_some, c_checkRange h1 (by omega) (by omega)]
  cases c : isB k 0 1 with
  | false =>
    rw [if_neg (by decide), if_neg (by decide), bndV_thr]
    exact CM.thr X hF o (Mx.refl hF) (Nat.zero_le _) (Nat.zero_le _) rfl
  | true =>
  have bk := isB_iff.mp c
  rw [if_pos rfl, if_pos rfl, bV_rV, Bool.true_and, gfR_at (k := 8) (q := sa) X.ob rfl, Option.bind_some, va_rf_some, ldR_at X.sg (by decide) bk.1 (by omega) (by decide), Option.bind_some]
  obtain ⟨l1, l2⟩ := X.sl k.toNat (by omega)
  by_cases cs : ar 5 k.toNat = 1
  · obtain ⟨g, g1, g2⟩ := l1 cs
    have ws := md.sw k.toNat (by omega) cs
    rw [if_pos cs, decide_eq_true cs, g1, if_neg (fun z => nomatch z), Option.bind_some, va_rf_some, ldR_at X.sg (by decide) bk.1 (by omega) (by decide), Option.bind_some, g1, va_rf_some, g2.k, Option.bind_some]
    obtain ⟨h2, e2, gg, x2⟩ := c_gameCopy (G := G) hF g2 hDn ws.rb ws.bd.np.2
    have B2 : GR G D D h2.1 hs.2.1 (sft (ar 3) (417 * k.toNat)) 2 := gg.dm (fun _ _ z _ => z) (fun q e hq _ => hDn q hq)
    have X2 := X.ex hF x2 o
    obtain ⟨h3, hd3, gs3, e3, X3, m3⟩ := c_replaceBy X2 x2.2.2.2 o md.c6 md.k0 md.k2 B2
    rw [bR_ex e2, X2.kx, Option.bind_some, va_rf_some, e3, bV_rV]
    have h8 := X3.gm.i8
    rw [show aS (aS ar 2 (remK (ar 2) (fi 6) (ar 0))) 0 (sft (ar 3) (417 * k.toNat)) 0 = sft (ar 3) (417 * k.toNat) from aS_s] at h8
    refine ⟨h3, ?_, X3.xo, (x2.toN.trans m3).le (by decide) (by decide)⟩
    show _ = rI (ar 3 (417 * k.toNat + 4)) _
    rw [X3.g1, Option.bind_some, va_rf_some, h8]
    rfl
  · rw [if_neg cs, decide_eq_false cs, l2 cs, if_pos rfl, ob16, Option.bind_some]
    exact CM.thr X hF o (Mx.refl hF) (Nat.zero_le _) (Nat.zero_le _) rfl
end MU4
