/-! ===== the component's object ===== -/
/-- kinds that no step changes: a game's, and short byte arrays -/
def tgY (t : Nat × Nat) : Bool := tgG t || (t.1 == 2 && Nat.ble t.2 200)
theorem Kp.yg {h h' : tAH} (k : Kp tgY h h') : Kp tgG h h' := fun q e hq ht => k q e hq (by unfold tgY; rw [ht]; rfl)
theorem ST.kpY {D : Nat → Prop} {h h' : tAH} {q n : Nat} {f : Nat → Int} (hk : Kp tgY h h') (hn : n ≤ 199) (H : ST D h q n f) : ST D h' q n f := by
  obtain ⟨d, b, hv, hz, vq, e1, d2, b', g, e2, e3⟩ := H
  refine ⟨d, b, hv, hz, vq, hk _ _ e1 rfl, d2, b', g, hk _ _ e2 ?_, e3⟩
  show tgY (2, n + 1) = true
  unfold tgY
  rw [show ((2 : Nat) == 2) = true from rfl, Bool.true_and, Bool.or_eq_true]
  exact Or.inr (Nat.ble_eq.mpr (by show n + 1 ≤ 200; omega))
theorem Kp.mxN {T : Nat × Nat → Bool} {N : Nat → Prop} {c d : Nat} {h0 h1 : tHS} (hF : Fi h0) (m : Mx N c d h0 h1) (hN : ∀ q e, N q → h0.1 q = some e → T (tg e) = false) : Kp T h0.1 h1.1 := fun q e hq ht => by
  refine (m.1 q (hF.lt hq) fun z => ?_).trans hq
  rw [hN q e z hq] at ht
  cases ht
/-- a row in a longer array -/
def sft (F : Nat → Int) (o : Nat) : tRow := fun j => F (o + j)
theorem sft_rb {F : Nat → Int} (h : RB F) {o : Nat} : RB (sft F o) := fun j => h _
/-- the object at x and what it holds, for the model's numbers fi, ar -/
abbrev XC (G : tG) (D N : Nat → Prop) (h : tAH) (x sv a ia ow dq sa ea hd : Nat) (gs : Nat → Nat) (fs : Nat → Option Nat) (fi : Nat → Int) (ar : Nat → Nat → Int) : Prop := (h x = some (true, 0, .inl [.ref sv, .ref a, .ref ia, .int (iI (fi 13)), .int (iI (fi 15)), .int (iI (fi 16)), .ref ow, .ref dq, .ref sa])) ∧ (SV G D h sv) ∧ (GR G D D h a (ar 0) 2) ∧ (∃ q, h ia = some (true, 2, .inr (600, .inl q)) ∧ ∀ j : Nat, (j : Int) < fi 13 → q j = iI (sgn (ar 8 j))) ∧ (ST D h ow (fi 14).toNat (fun j => ar 9 j)) ∧ (DQ h dq ea hd (fi 6).toNat gs) ∧ (∀ k, k < (fi 6).toNat → GR G D D h (gs k) (sft (ar 2) (417 * k)) 2) ∧ (h sa = some (true, 6, .inr (2, rfs fs))) ∧ (∀ k, k < 2 → (ar 5 k = 1 → ∃ g, fs k = some g ∧ GR G D D h g (sft (ar 3) (417 * k)) 2) ∧ (ar 5 k ≠ 1 → fs k = none)) ∧ (N x ∧ N ia ∧ N dq ∧ N ea ∧ N sa)
theorem XC.ob {G : tG} {D N : Nat → Prop} {h : tAH} {x sv a ia ow dq sa ea hd : Nat} {gs : Nat → Nat} {fs : Nat → Option Nat} {fi : Nat → Int} {ar : Nat → Nat → Int} (zz : XC G D N h x sv a ia ow dq sa ea hd gs fs fi ar) : h x = some (true, 0, .inl [.ref sv, .ref a, .ref ia, .int (iI (fi 13)), .int (iI (fi 15)), .int (iI (fi 16)), .ref ow, .ref dq, .ref sa]) := zz.1
theorem XC.sh {G : tG} {D N : Nat → Prop} {h : tAH} {x sv a ia ow dq sa ea hd : Nat} {gs : Nat → Nat} {fs : Nat → Option Nat} {fi : Nat → Int} {ar : Nat → Nat → Int} (zz : XC G D N h x sv a ia ow dq sa ea hd gs fs fi ar) : SV G D h sv := zz.2.1
theorem XC.gm {G : tG} {D N : Nat → Prop} {h : tAH} {x sv a ia ow dq sa ea hd : Nat} {gs : Nat → Nat} {fs : Nat → Option Nat} {fi : Nat → Int} {ar : Nat → Nat → Int} (zz : XC G D N h x sv a ia ow dq sa ea hd gs fs fi ar) : GR G D D h a (ar 0) 2 := zz.2.2.1
theorem XC.ip {G : tG} {D N : Nat → Prop} {h : tAH} {x sv a ia ow dq sa ea hd : Nat} {gs : Nat → Nat} {fs : Nat → Option Nat} {fi : Nat → Int} {ar : Nat → Nat → Int} (zz : XC G D N h x sv a ia ow dq sa ea hd gs fs fi ar) : ∃ q, h ia = some (true, 2, .inr (600, .inl q)) ∧ ∀ j : Nat, (j : Int) < fi 13 → q j = iI (sgn (ar 8 j)) := zz.2.2.2.1
theorem XC.ou {G : tG} {D N : Nat → Prop} {h : tAH} {x sv a ia ow dq sa ea hd : Nat} {gs : Nat → Nat} {fs : Nat → Option Nat} {fi : Nat → Int} {ar : Nat → Nat → Int} (zz : XC G D N h x sv a ia ow dq sa ea hd gs fs fi ar) : ST D h ow (fi 14).toNat (fun j => ar 9 j) := zz.2.2.2.2.1
theorem XC.dk {G : tG} {D N : Nat → Prop} {h : tAH} {x sv a ia ow dq sa ea hd : Nat} {gs : Nat → Nat} {fs : Nat → Option Nat} {fi : Nat → Int} {ar : Nat → Nat → Int} (zz : XC G D N h x sv a ia ow dq sa ea hd gs fs fi ar) : DQ h dq ea hd (fi 6).toNat gs := zz.2.2.2.2.2.1
theorem XC.kg {G : tG} {D N : Nat → Prop} {h : tAH} {x sv a ia ow dq sa ea hd : Nat} {gs : Nat → Nat} {fs : Nat → Option Nat} {fi : Nat → Int} {ar : Nat → Nat → Int} (zz : XC G D N h x sv a ia ow dq sa ea hd gs fs fi ar) : ∀ k, k < (fi 6).toNat → GR G D D h (gs k) (sft (ar 2) (417 * k)) 2 := zz.2.2.2.2.2.2.1
theorem XC.sg {G : tG} {D N : Nat → Prop} {h : tAH} {x sv a ia ow dq sa ea hd : Nat} {gs : Nat → Nat} {fs : Nat → Option Nat} {fi : Nat → Int} {ar : Nat → Nat → Int} (zz : XC G D N h x sv a ia ow dq sa ea hd gs fs fi ar) : h sa = some (true, 6, .inr (2, rfs fs)) := zz.2.2.2.2.2.2.2.1
theorem XC.sl {G : tG} {D N : Nat → Prop} {h : tAH} {x sv a ia ow dq sa ea hd : Nat} {gs : Nat → Nat} {fs : Nat → Option Nat} {fi : Nat → Int} {ar : Nat → Nat → Int} (zz : XC G D N h x sv a ia ow dq sa ea hd gs fs fi ar) : ∀ k, k < 2 → (ar 5 k = 1 → ∃ g, fs k = some g ∧ GR G D D h g (sft (ar 3) (417 * k)) 2) ∧ (ar 5 k ≠ 1 → fs k = none) := zz.2.2.2.2.2.2.2.2.1
theorem XC.nx {G : tG} {D N : Nat → Prop} {h : tAH} {x sv a ia ow dq sa ea hd : Nat} {gs : Nat → Nat} {fs : Nat → Option Nat} {fi : Nat → Int} {ar : Nat → Nat → Int} (zz : XC G D N h x sv a ia ow dq sa ea hd gs fs fi ar) : N x ∧ N ia ∧ N dq ∧ N ea ∧ N sa := zz.2.2.2.2.2.2.2.2.2
section XCS
variable {G : tG} {D N : Nat → Prop} {h h' : tAH} {hs : tHS} {x sv a ia ow dq sa ea hd : Nat} {gs : Nat → Nat} {fs : Nat → Option Nat} {fi fi' : Nat → Int} {ar ar' : Nat → Nat → Int}
/-- where the kinds and the object's own cells stay -/
theorem XC.fr (X : XC G D N h x sv a ia ow dq sa ea hd gs fs fi ar) (ho : (fi 14).toNat ≤ 199) (ky : Kp tgY h h') (h1 : h' x = h x) (h2 : h' ia = h ia) (h3 : h' dq = h dq) (h4 : h' ea = h ea) (h5 : h' sa = h sa) : XC G D N h' x sv a ia ow dq sa ea hd gs fs fi ar := by
  obtain ⟨q, i1, i2⟩ := X.ip
  refine ⟨h1.trans X.ob, X.sh.kp ky.yg, X.gm.kp ky.yg, ⟨q, h2.trans i1, i2⟩, X.ou.kpY ky ho, X.dk.cg h3 h4, fun k hk => (X.kg k hk).kp ky.yg, h5.trans X.sg, fun k hk => ⟨fun e => ?_, (X.sl k hk).2⟩, X.nx⟩
  obtain ⟨g, g1, g2⟩ := (X.sl k hk).1 e
  exact ⟨g, g1, g2.kp ky.yg⟩
theorem XC.ex {c d : Nat} {hs' : tHS} (hF : Fi hs) (m : Ex c d hs hs') (X : XC G D N hs.1 x sv a ia ow dq sa ea hd gs fs fi ar) (ho : (fi 14).toNat ≤ 199) : XC G D N hs'.1 x sv a ia ow dq sa ea hd gs fs fi ar := by
  obtain ⟨q, i1, -⟩ := X.ip
  obtain ⟨fe, e2, -⟩ := X.dk.e2
  have k : ∀ {q : Nat} {e : tEnt}, hs.1 q = some e → hs'.1 q = hs.1 q := fun hq => m.1 _ (hF.lt hq) (fun z => z)
  exact X.fr ho (Kp.ex hF m) (k X.ob) (k i1) (k X.dk.e1) (k e2) (k X.sg)
/-- where all of D is as it was -/
theorem XC.on (hh : ∀ q, D q → h' q = h q) (hND : ∀ q, N q → D q) (X : XC G D N h x sv a ia ow dq sa ea hd gs fs fi ar) : XC G D N h' x sv a ia ow dq sa ea hd gs fs fi ar := by
  obtain ⟨q, i1, i2⟩ := X.ip
  obtain ⟨n1, n2, n3, n4, n5⟩ := X.nx
  obtain ⟨sd, sb, sf, s1, s2⟩ := X.sh
  obtain ⟨od, b, hv, hz, vq, e1, d2, b', g, e2, e3⟩ := X.ou
  refine ⟨(hh _ (hND _ n1)).trans X.ob, ⟨sd, sb, sf, (hh _ sd).trans s1, s2⟩, X.gm.on hh fun _ z => z, ⟨q, (hh _ (hND _ n2)).trans i1, i2⟩, ⟨od, b, hv, hz, vq, (hh _ od).trans e1, d2, b', g, (hh _ d2).trans e2, e3⟩, X.dk.cg (hh _ (hND _ n3)) (hh _ (hND _ n4)), fun k hk => (X.kg k hk).on hh fun _ z => z, (hh _ (hND _ n5)).trans X.sg, fun k hk => ⟨fun e => ?_, (X.sl k hk).2⟩, X.nx⟩
  obtain ⟨g, g1, g2⟩ := (X.sl k hk).1 e
  exact ⟨g, g1, g2.on hh fun _ z => z⟩
/-- other numbers that say the same -/
theorem XC.cg (X : XC G D N h x sv a ia ow dq sa ea hd gs fs fi ar) (h6 : fi' 6 = fi 6) (h13 : fi' 13 = fi 13) (h14 : fi' 14 = fi 14) (h15 : fi' 15 = fi 15) (h16 : fi' 16 = fi 16) (a0 : ∀ j, j < 417 → ar' 0 j = ar 0 j) (a2 : ∀ j, j < 3336 → ar' 2 j = ar 2 j) (a3 : ∀ j, j < 834 → ar' 3 j = ar 3 j) (a5 : ∀ k, k < 2 → ar' 5 k = ar 5 k) (a8 : ∀ j : Nat, (j : Int) < fi 13 → ar' 8 j = ar 8 j) (a9 : ∀ j : Nat, (j : Int) < fi 14 → ar' 9 j = ar 9 j) (b0 : ar 0 4 ≤ 32) (b2 : ∀ k, k < (fi 6).toNat → ar 2 (417 * k + 4) ≤ 32) (b3 : ∀ k, k < 2 → ar 5 k = 1 → ar 3 (417 * k + 4) ≤ 32) : XC G D N h x sv a ia ow dq sa ea hd gs fs fi' ar' := by
  obtain ⟨q, i1, i2⟩ := X.ip
  have l2 := X.dk.l2
  refine ⟨by rw [h13, h15, h16]; exact X.ob, X.sh, X.gm.cgR (by decide) b0 a0, ⟨q, i1, fun j hj => ?_⟩, by rw [h14]; exact X.ou.cg fun j hj => a9 j (by omega), by rw [h6]; exact X.dk, fun k hk => ?_, X.sg, fun k hk => ?_, X.nx⟩
  · rw [h13] at hj
    rw [a8 j hj]
    exact i2 j hj
  · rw [h6] at hk
    exact (X.kg k hk).cgR (by decide) (b2 k hk) fun j hj => a2 _ (by omega)
  · rw [a5 k hk]
    refine ⟨fun e => ?_, (X.sl k hk).2⟩
    obtain ⟨g, g1, g2⟩ := (X.sl k hk).1 e
    exact ⟨g, g1, g2.cgR (by decide) (b3 k hk e) fun j hj => a3 _ (by omega)⟩
theorem XC.nq (X : XC G D N h x sv a ia ow dq sa ea hd gs fs fi ar) : x ≠ ia ∧ x ≠ dq ∧ x ≠ ea ∧ x ≠ sa ∧ ia ≠ dq ∧ ia ≠ ea ∧ ia ≠ sa ∧ dq ≠ ea ∧ dq ≠ sa ∧ ea ≠ sa := by
  obtain ⟨q, i1, -⟩ := X.ip
  obtain ⟨fe, e2, -⟩ := X.dk.e2
  have e1 := X.dk.e1
  have o := X.ob
  have s := X.sg
  exact ⟨ne_tg o i1 (by show ((0 : Nat), 0) ≠ (2, 601); decide), ne_tg o e1 (by show ((0 : Nat), 0) ≠ (9, 0); decide), ne_tg o e2 (by show ((0 : Nat), 0) ≠ (5, 18); decide), ne_tg o s (by show ((0 : Nat), 0) ≠ (6, 3); decide), ne_tg i1 e1 (by show ((2 : Nat), 601) ≠ (9, 0); decide), ne_tg i1 e2 (by show ((2 : Nat), 601) ≠ (5, 18); decide), ne_tg i1 s (by show ((2 : Nat), 601) ≠ (6, 3); decide), ne_tg e1 e2 (by show ((9 : Nat), 0) ≠ (5, 18); decide), ne_tg e1 s (by show ((9 : Nat), 0) ≠ (6, 3); decide), ne_tg e2 s (by show ((5 : Nat), 18) ≠ (6, 3); decide)⟩
/-- two numbers put down -/
theorem c_report (X : XC G D N hs.1 x sv a ia ow dq sa ea hd gs fs fi ar) (hF : Fi hs) (ho : (fi 14).toNat ≤ 199) {c o : Int} : ∃ hs', t_Ev (t_pg G) t_hd Y_X1_report 0 ([some (.ref x), some (.int (iI c)), some (.int (iI o))], [], hs) = rV hs' ∧ XC G D N hs'.1 x sv a ia ow dq sa ea hd gs fs (fU (fU fi 15 c) 16 o) ar ∧ Mx N 0 0 hs hs' ∧ Kp tgY hs.1 hs'.1 := by
  obtain ⟨n1, n2, n3, n4, n5, n6, n7, n8, n9, n10⟩ := X.nq
  obtain ⟨E1, hE1⟩ : ∃ E1 : tEnt, E1 = (true, 0, .inl [.ref sv, .ref a, .ref ia, .int (iI (fi 13)), .int (iI c), .int (iI o), .ref ow, .ref dq, .ref sa]) := ⟨_, rfl⟩
  refine ⟨(t_up hs.1 x E1, hs.2), ?_, ?_, Mx.up hF X.ob X.nx.1, Kp.up X.ob rfl⟩
  · rw [b_X1_report_0, pf_at X.ob (Nat.le_of_ble_eq_true rfl), Option.bind_some, pf_at t_up_s (Nat.le_of_ble_eq_true rfl), Option.bind_some, t_up_up, hE1]
    rfl
  · have ky : Kp tgY hs.1 (t_up hs.1 x E1) := Kp.up X.ob rfl
    obtain ⟨q, i1, i2⟩ := X.ip
    refine ⟨t_up_s.trans (by rw [hE1]; rfl), X.sh.kp ky.yg, X.gm.kp ky.yg, ⟨q, (t_up_n n1.symm).trans i1, i2⟩, X.ou.kpY ky ho, X.dk.cg (t_up_n n2.symm) (t_up_n n3.symm), fun k hk => (X.kg k hk).kp ky.yg, (t_up_n n4.symm).trans X.sg, fun k hk => ⟨fun e => ?_, (X.sl k hk).2⟩, X.nx⟩
    obtain ⟨g, g1, g2⟩ := (X.sl k hk).1 e
    exact ⟨g, g1, g2.kp ky.yg⟩
/-- the input emptied, or cut -/
theorem c_inLen (X : XC G D N hs.1 x sv a ia ow dq sa ea hd gs fs fi ar) (hF : Fi hs) (ho : (fi 14).toNat ≤ 199) {c : Int} (hc : c ≤ fi 13) : ∃ h', pfV hs.1 (.ref x) 0 3 (.int (iI c)) = some h' ∧ XC G D N h' x sv a ia ow dq sa ea hd gs fs (fU fi 13 c) ar ∧ Mx N 0 0 hs (h', hs.2) := by
  obtain ⟨n1, n2, n3, n4, n5, n6, n7, n8, n9, n10⟩ := X.nq
  refine ⟨_, pf_at X.ob (Nat.le_of_ble_eq_true rfl), ?_, Mx.up hF X.ob X.nx.1⟩
  have ky : Kp tgY hs.1 (t_up hs.1 x (true, 0, .inl ([.ref sv, .ref a, .ref ia, .int (iI (fi 13)), .int (iI (fi 15)), .int (iI (fi 16)), .ref ow, .ref dq, .ref sa].set 3 (.int (iI c))))) := Kp.up X.ob rfl
  obtain ⟨q, i1, i2⟩ := X.ip
  refine ⟨t_up_s.trans rfl, X.sh.kp ky.yg, X.gm.kp ky.yg, ⟨q, (t_up_n n1.symm).trans i1, fun j hj => i2 j (by rw [fU_s] at hj; omega)⟩, X.ou.kpY ky ho, X.dk.cg (t_up_n n2.symm) (t_up_n n3.symm), fun k hk => (X.kg k hk).kp ky.yg, (t_up_n n4.symm).trans X.sg, fun k hk => ⟨fun e => ?_, (X.sl k hk).2⟩, X.nx⟩
  obtain ⟨g, g1, g2⟩ := (X.sl k hk).1 e
  exact ⟨g, g1, g2.kp ky.yg⟩
theorem remK_o {kept row : Nat → Int} {c : Int} (hc : 0 ≤ c ∧ c ≤ 8) {k j : Nat} (hk : k < (remC c).toNat) (hj : j < 417) : remK kept c row (417 * k + j) = kept (417 * (if c = 8 then k + 1 else k) + j) := by
  unfold remK va_cpy
  by_cases q : c = 8
  · have e : remC c = 7 := if_pos q
    rw [e] at hk ⊢
    rw [if_neg (by omega), if_pos q, if_pos q]
    try dsimp only
    rw [if_pos (by omega)]
    exact congrArg kept (by omega)
  · have e : remC c = c := if_neg q
    rw [e] at hk ⊢
    rw [if_neg (by omega), if_neg q, if_neg q]
theorem remK_n {kept row : Nat → Int} {c : Int} (hc : 0 ≤ c ∧ c ≤ 8) {j : Nat} (hj : j < 417) : remK kept c row (417 * (remC c).toNat + j) = row j := by
  have e : 0 ≤ remC c := by unfold remC; split <;> omega
  unfold remK va_cpy
  rw [if_pos (by omega)]
  exact congrArg row (by omega)
/-- another game, the old one kept -/
theorem c_replaceBy {b : Nat} {s' : tRow} (X : XC G D N hs.1 x sv a ia ow dq sa ea hd gs fs fi ar) (hF : Fi hs) (ho : (fi 14).toNat ≤ 199) (h6 : 0 ≤ fi 6 ∧ fi 6 ≤ 8) (b0 : ar 0 4 ≤ 32) (b2 : ∀ k, k < (fi 6).toNat → ar 2 (417 * k + 4) ≤ 32) (B : GR G D D hs.1 b s' 2) : ∃ hs' hd' gs', t_Ev (t_pg G) t_hd Y_X1_replaceBy 0 ([some (.ref x), some (.ref b)], [], hs) = rV hs' ∧ XC G D N hs'.1 x sv b ia ow dq sa ea hd' gs' fs (fU fi 6 (remC (fi 6) + 1)) (aS (aS ar 2 (remK (ar 2) (fi 6) (ar 0))) 0 s') ∧ Mx N 0 0 hs hs' := by
  obtain ⟨n1, n2, n3, n4, n5, n6, n7, n8, n9, n10⟩ := X.nq
  obtain ⟨fe, e2, -⟩ := X.dk.e2
  have l2 := X.dk.l2
  obtain ⟨afl, ae⟩ := X.gm.aa
  have rc : (fi 6 = 8 ∧ remC (fi 6) = 7) ∨ (fi 6 ≠ 8 ∧ remC (fi 6) = fi 6) := by
    unfold remC
    by_cases q : fi 6 = 8
    · exact Or.inl ⟨q, if_pos q⟩
    · exact Or.inr ⟨q, if_neg q⟩
  have fin : ∀ (h2 : tHS) (hd' : Nat) (g0 : Nat → Nat), Mx (fun q => q = dq ∨ q = ea) 0 0 hs h2 → DQ h2.1 dq ea hd' ((remC (fi 6)).toNat + 1) (fun k => if k = (remC (fi 6)).toNat then a else g0 k) → (∀ k, k < (remC (fi 6)).toNat → g0 k = gs (if fi 6 = 8 then k + 1 else k)) →
      ∃ hs' hd' gs', ((pfV h2.1 (.ref x) 0 1 (.ref b)).bind fun h_13 => (some (.inl none, (h_13, h2.2)) : Option tRS)) = rV hs' ∧ XC G D N hs'.1 x sv b ia ow dq sa ea hd' gs' fs (fU fi 6 (remC (fi 6) + 1)) (aS (aS ar 2 (remK (ar 2) (fi 6) (ar 0))) 0 s') ∧ Mx N 0 0 hs hs' := by
    intro h2 hd' g0 m2 d2 hg
    have k2 : Kp tgY hs.1 h2.1 := Kp.mxN hF m2 fun q e hq he => by
      rcases hq with rfl | rfl
      · rw [X.dk.e1] at he; cases he; rfl
      · rw [e2] at he; cases he; rfl
    have old : ∀ {q : Nat} {e : tEnt}, hs.1 q = some e → q ≠ dq → q ≠ ea → h2.1 q = some e := fun hq z1 z2 => (m2.1 _ (hF.lt hq) (fun z => by rcases z with z | z; exact z1 z; exact z2 z)).trans hq
    have ob2 := old X.ob n2 n3
    have sg2 := old X.sg n9.symm n10.symm
    obtain ⟨q, i1, i2⟩ := X.ip
    have ip2 := old i1 n5 n6
    obtain ⟨E1, hE1⟩ : ∃ E1 : tEnt, E1 = (true, 0, .inl [.ref sv, .ref b, .ref ia, .int (iI (fi 13)), .int (iI (fi 15)), .int (iI (fi 16)), .ref ow, .ref dq, .ref sa]) := ⟨_, rfl⟩
    have k3 : Kp tgY h2.1 (t_up h2.1 x E1) := Kp.up ob2 rfl
    have ky := k2.trans k3
    have m3 : Mx N 0 0 hs (t_up h2.1 x E1, h2.2) := (m2.mono (fun q hq => by rcases hq with rfl | rfl; exact X.nx.2.2.1; exact X.nx.2.2.2.1) (Nat.le_refl _) (Nat.le_refl _)).upM ob2 X.nx.1
    refine ⟨(t_up h2.1 x E1, h2.2), hd', fun k => if k = (remC (fi 6)).toNat then a else g0 k, ?_, ?_, m3⟩
    · rw [pf_at ob2 (Nat.le_of_ble_eq_true rfl), Option.bind_some, hE1]
      rfl
    · have c6 : (fU fi 6 (remC (fi 6) + 1) 6).toNat = (remC (fi 6)).toNat + 1 := by rw [fU_s]; omega
      have A0 : aS (aS ar 2 (remK (ar 2) (fi 6) (ar 0))) 0 s' 0 = s' := aS_s
      have A2 : aS (aS ar 2 (remK (ar 2) (fi 6) (ar 0))) 0 s' 2 = remK (ar 2) (fi 6) (ar 0) := (aS_n (by decide)).trans aS_s
      have A3 : aS (aS ar 2 (remK (ar 2) (fi 6) (ar 0))) 0 s' 3 = ar 3 := (aS_n (by decide)).trans (aS_n (by decide))
      have A5 : aS (aS ar 2 (remK (ar 2) (fi 6) (ar 0))) 0 s' 5 = ar 5 := (aS_n (by decide)).trans (aS_n (by decide))
      have A8 : aS (aS ar 2 (remK (ar 2) (fi 6) (ar 0))) 0 s' 8 = ar 8 := (aS_n (by decide)).trans (aS_n (by decide))
      have A9 : aS (aS ar 2 (remK (ar 2) (fi 6) (ar 0))) 0 s' 9 = ar 9 := (aS_n (by decide)).trans (aS_n (by decide))
      refine ⟨t_up_s.trans (by rw [hE1]; rfl), X.sh.kp ky.yg, by rw [A0]; exact B.kp ky.yg, ⟨q, (t_up_n n1.symm).trans ip2, fun j hj => by rw [A8]; exact i2 j hj⟩, by rw [A9]; exact X.ou.kpY ky ho, by rw [c6]; exact d2.cg (t_up_n n2.symm) (t_up_n n3.symm), fun k hk => ?_, (t_up_n n4.symm).trans sg2, fun k hk => ?_, X.nx⟩
      · rw [c6] at hk
        rw [A2]
        try dsimp only
        by_cases q : k = (remC (fi 6)).toNat
        · rw [if_pos q, q]
          exact (X.gm.kp ky.yg).cgR (by decide) b0 fun j hj => remK_n h6 hj
        · rw [if_neg q, hg k (by omega)]
          have hk2 : (if fi 6 = 8 then k + 1 else k) < (fi 6).toNat := by split <;> omega
          exact ((X.kg _ hk2).kp ky.yg).cgR (by decide) (b2 _ hk2) fun j hj => remK_o h6 (by omega) hj
      · rw [A5, A3]
        refine ⟨fun e => ?_, (X.sl k hk).2⟩
        obtain ⟨g, g1, g2⟩ := (X.sl k hk).1 e
        exact ⟨g, g1, g2.kp ky.yg⟩
  rw [b_X1_replaceBy_0, gfR_at (k := 7) (q := dq) X.ob rfl, Option.bind_some, va_rf_some, kN_at X.dk.e1, Option.bind_some, c_dqSize X.dk, bI_rI]
  simp (disch := omega) only [iI_inj]
  rcases rc with ⟨q, e⟩ | ⟨q, e⟩
  · rw [if_pos (by omega), gfR_at (k := 7) (q := dq) X.ob rfl, Option.bind_some, va_rf_some, kN_at X.dk.e1, Option.bind_some]
    obtain ⟨h1, hd1, e1, d1, m1⟩ := c_removeFirst (G := G) X.dk hF (by omega)
    have old : ∀ {q : Nat} {e : tEnt}, hs.1 q = some e → q ≠ dq → q ≠ ea → h1.1 q = some e := fun hq z1 z2 => (m1.1 _ (hF.lt hq) (fun z => by rcases z with z | z; exact z1 z; exact z2 z)).trans hq
    have ob1 := old X.ob n2 n3
    have ae1 := old ae (ne_tg ae X.dk.e1 (by show ((2 : Nat), 0) ≠ (9, 0); decide)) (ne_tg ae e2 (by show ((2 : Nat), 0) ≠ (5, 18); decide))
    rw [bR_ex e1, gfR_at (k := 7) (q := dq) ob1 rfl, Option.bind_some, gfR_at (k := 1) (q := a) ob1 rfl, Option.bind_some, va_rf_some, kN_at d1.e1, Option.bind_some, va_rf_some]
    obtain ⟨h2, e2', d2, m2⟩ := c_addLast (G := G) (g := a) d1 m1.2.2.2 (by omega) (isK_at ae1)
    rw [e2', bV_rV]
    have ce : (fi 6).toNat - 1 = (remC (fi 6)).toNat := by omega
    rw [ce] at d2
    exact fin h2 hd1 (fun k => gs (k + 1)) (m1.trans m2) d2 fun k hk => by rw [if_pos q]
  · rw [if_neg (by omega), gfR_at (k := 7) (q := dq) X.ob rfl, Option.bind_some, gfR_at (k := 1) (q := a) X.ob rfl, Option.bind_some, va_rf_some, kN_at X.dk.e1, Option.bind_some, va_rf_some]
    obtain ⟨h2, e2', d2, m2⟩ := c_addLast (G := G) (g := a) X.dk hF (by omega) (isK_at ae)
    rw [e2', bV_rV]
    have ce : (fi 6).toNat = (remC (fi 6)).toNat := by omega
    rw [ce] at d2
    exact fin h2 hd gs m2 d2 fun k hk => by rw [if_neg q]
end XCS
