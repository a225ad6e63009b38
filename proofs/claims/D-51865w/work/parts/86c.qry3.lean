/-! ===== the component's queries: what would be, the best, the dead ===== -/
section QT
variable {G : tG} {D N : Nat → Prop} {hs : tHS} {x sv a ia ow dq sa ea hd : Nat} {gs : Nat → Nat} {fs : Nat → Option Nat} {fi : Nat → Int} {ar : Nat → Nat → Int}
theorem th_k {κ : Nat} {h : tHS} : t_kind (t_al h (true, κ, .inl []) 6).1 h.2.1 = κ := kd_at (c := .inl []) (b := true) t_up_s
theorem CQ.tX {h : tHS} {κ : Nat} (hF : Fi h) {X : Nat → tHS → Option tRS} (hX : ∀ e h, t_kind h.1 e = κ → X e h = some (.inr e, h)) : CQ (X h.2.1 (t_al h (true, κ, .inl []) 6)) h (.inl κ) := CQ.thr hF (hX _ _ th_k)
theorem q_plX (X : XC G D N hs.1 x sv a ia ow dq sa ea hd gs fs fi ar) (hF : Fi hs) (md : Md fi ar) {sh r u w : Int} (h1 : InR sh) (h2 : InR r) (h3 : InR u) (h4 : InR w) {K : Option Nat → tHS → Option tRS} {Xc : Nat → tHS → Option tRS} {v : Nat ⊕ Int} (hX : ∀ e h, t_kind h.1 e = 15 ∨ t_kind h.1 e = 17 → Xc e h = some (.inr e, h))
    (hv : isB sh 0 4 = true → isB r 0 3 = true → inB (ar 0) u w = true → ∀ hs', Ex 1 4 hs hs' → XC G D N hs'.1 x sv a ia ow dq sa ea hd gs fs fi ar → Fi hs' → hs'.1 hs.2.1 = some (true, 5, .inl [.ref (G.1 sh.toNat), .int (iI r), .int (iI u), .int (iI w)]) → CQ (K (some hs.2.1) hs') hs v) :
    CQ (bndR (t_Ev (t_pg G) t_hd Y_X1_placement 0 ([some (.ref x), some (.int (iI sh)), some (.int (iI r)), some (.int (iI u)), some (.int (iI w))], [], hs)) K Xc) hs (plR (ar 0) sh r u w v) := by
  have p := c_placement (G := G) X hF md h1 h2 h3 h4
  unfold plR
  cases c1 : (isB sh 0 4 && isB r 0 3) with
  | false =>
    rw [if_neg (by rw [c1]; decide)] at p
    rw [p, bndR_thr]
    exact CQ.tX hF fun e h hk => hX e h (Or.inl hk)
  | true =>
    rw [if_pos c1] at p
    rw [if_pos rfl]
    rw [Bool.and_eq_true] at c1
    cases c3 : inB (ar 0) u w with
    | false =>
      rw [if_neg (by rw [c3]; decide)] at p
      rw [p, bndR_thr]
      exact CQ.tX hF fun e h hk => hX e h (Or.inr hk)
    | true =>
      rw [if_pos c3] at p
      obtain ⟨h, e, m, z⟩ := p
      rw [if_pos rfl, bR_ex e]
      exact hv c1.1 c1.2 c3 h m (X.ex hF m md.o199) m.2.2.2 z
theorem hd_mA {k : Nat} (pc : Nat) (h1 : pc = 6 ∨ pc = 14) (h : k = 15 ∨ k = 17) : t_hd Y_X1_mobilityAfter pc k = some none := by
  rcases h1 with rfl | rfl <;> rcases h with rfl | rfl <;> rfl
theorem q_mobilityAfter (X : XC G D N hs.1 x sv a ia ow dq sa ea hd gs fs fi ar) (hF : Fi hs) (md : Md fi ar) (C : CH G D hs.1) {sh r u w p : Int} (h1 : InR sh) (h2 : InR r) (h3 : InR u) (h4 : InR w) (h5 : InR p) : CQ (t_Ev (t_pg G) t_hd Y_X1_mobilityAfter 0 ([some (.ref x), some (.int (iI sh)), some (.int (iI r)), some (.int (iI u)), some (.int (iI w)), some (.int (iI p)), none, none, none], [], hs)) hs (plR (ar 0) sh r u w (pyR p (.inr (if mayP (ar 0) sh r u w = true then movs (plc (ar 0) sh r u w) p else -1)))) := by
  rw [b_X1_mobilityAfter_0, X.kx, Option.bind_some]
  refine q_plX X hF md h1 h2 h3 h4 (fun e h hk => thr_up rfl (hd_mA 6 (Or.inl rfl) hk)) fun c1 c2 c3 h m X' F' z => ?_
  have b1 := isB_iff.mp c1
  have b2 := isB_iff.mp c2
  have b3 := inB_7 md.w.bd.dm c3
  have q := c_playerAt (G := G) X' h5
  rw [X'.kx, Option.bind_some]
  unfold pyR
  cases c : isB p 0 1 with
  | false =>
    rw [if_neg (by rw [c]; decide)] at q
    rw [q, bndR_thr]
    exact CQ.thr' (thr_up th_k (hd_mA 14 (Or.inr rfl) (Or.inr rfl))) m (by decide) (by decide)
  | true =>
  rw [if_pos c] at q
  obtain ⟨b, su, nm, f, e, -⟩ := q
  have bp := isB_iff.mp c
  obtain ⟨h2, e2, g2, x2⟩ := c_gameCopy (G := G) F' X'.gm.tr (fun _ _ => trivial) md.w.rb md.k0
  have C2 := ((C.kp (Kp.ex hF m)).kp (Kp.ex F' x2)).tr
  have z2 : h2.1 hs.2.1 = _ := (x2.1 _ (F'.lt z) (fun z => z)).trans z
  have pt := c_put (G := G) g2 C2 ⟨trivial, z2⟩ x2.2.2.2 trivial md.w.bd.dm md.w.rb md.w.py.mv.2 (fun hm => md.w.bd.p31 b1.1 b1.2 b2.1 b2.2 hm) b1.1 b1.2 b2.1 b2.2 b3.1 b3.2
  rw [if_pos rfl, bR_ex e, X'.g1, Option.bind_some, va_rf_some, X'.gm.k, Option.bind_some, bR_ex e2, va_rf_some, g2.k, Option.bind_some, va_rf_some]
  cases cm : mayP (ar 0) sh r u w with
  | false =>
    rw [if_neg (by rw [cm]; decide)] at pt
    rw [pt, bndI_thr, thr_to (pc' := 43) th_k rfl, b_X1_mobilityAfter_43]
    exact CQ.ex (v := -1) rfl ((m.trans x2).trans (Ex.al x2.2.2.2)) (by decide) (by decide)
  | true =>
    rw [if_pos cm] at pt
    obtain ⟨h3, e3, g3, m3⟩ := pt
    have x3 : Ex _ _ h h3 := x2.fresh m3
    have in3 := inB_iff.mp c3
    have w3 := md.w.kPlc b1.1 b1.2 b2.1 b2.2 in3.1 in3.2 cm
    have C3 : CH G (fun _ => True) h3.1 := ((C.kp (Kp.ex hF m)).kp (Kp.ex F' x3)).tr
    obtain ⟨h4, e4, x4⟩ := c_mobilityOf (G := G) x3.2.2.2 g3 C3 w3.bd.dm w3.rb bp.1 bp.2
    rw [e3, bI_rI, g3.k, Option.bind_some, e4, bI_rI, if_pos rfl]
    exact CQ.ex rfl ((m.trans x3).trans x4) (by decide) (by decide)
/-- a part of the best placement, or -1 -/
def bsR (s : tRow) (f : Int × Int × Int × Int → Int) : Int := match bst s with
  | none => -1
  | some t => f t
theorem q_bst (X : XC G D N hs.1 x sv a ia ow dq sa ea hd gs fs fi ar) (hF : Fi hs) (md : Md fi ar) (C : CH G D hs.1) {f : Int × Int × Int × Int → Int} {K : Option Nat → tHS → Option tRS}
    (hv : ∀ o hs' t, CH G D hs'.1 → PL G (fun _ => True) hs'.1 o t.1 t.2.1 t.2.2.1 t.2.2.2 → 0 ≤ t.1 → t.1 ≤ 4 → K (some o) hs' = rI (f t) hs') (hn : ∀ hs', K none hs' = rI (-1) hs') :
    CQ ((gfR hs.1 (.ref x) 0 1).bind fun o_1 => (t_kN hs.1 (va_rf o_1) 2).bind fun a_2 => bndR (t_Ev (t_pg G) t_hd Y_X3_bestPlacement 0 ([some (.ref a_2), none, none], [], hs)) K tX) hs (.inr (bsR (ar 0) f)) := by
  obtain ⟨h1, o, e, P, m⟩ := c_bestPlacement (G := G) hF X.gm C md.w.bd.dm md.w.rb md.w.py.mv.2
  rw [X.g1, Option.bind_some, va_rf_some, X.gm.k, Option.bind_some, bR_ex e]
  unfold bsR
  generalize bst (ar 0) = bb at P ⊢
  unfold PO at P
  rcases o with _ | o <;> rcases bb with _ | t
  · exact CQ.ex (hn h1) m (by decide) (by decide)
  · exact absurd P (fun z => z)
  · exact absurd P (fun z => z)
  · exact CQ.ex (hv o h1 t (C.kp (Kp.ex hF m)) P.1 P.2.1 P.2.2) m (by decide) (by decide)
theorem q_bestShape (X : XC G D N hs.1 x sv a ia ow dq sa ea hd gs fs fi ar) (hF : Fi hs) (md : Md fi ar) (C : CH G D hs.1) : CQ (t_Ev (t_pg G) t_hd Y_X1_bestShape 0 ([some (.ref x), none], [], hs)) hs (.inr (bsR (ar 0) fun t => t.1)) := by
  rw [b_X1_bestShape_0]
  refine q_bst X hF md C (fun o h t C' P t0 t4 => ?_) (fun h => ?_)
  · rw [if_neg (fun z => nomatch z), va_rf_some, P.r0, Option.bind_some, va_rf_some, C'.k t0 t4, Option.bind_some, c_ordinal C' t0 t4, bI_rI]
    rfl
  · rw [if_pos rfl]; rfl
theorem q_bestRotation (X : XC G D N hs.1 x sv a ia ow dq sa ea hd gs fs fi ar) (hF : Fi hs) (md : Md fi ar) (C : CH G D hs.1) : CQ (t_Ev (t_pg G) t_hd Y_X1_bestRotation 0 ([some (.ref x), none], [], hs)) hs (.inr (bsR (ar 0) fun t => t.2.1)) := by
  rw [b_X1_bestRotation_0]
  refine q_bst X hF md C (fun o h t C' P t0 t4 => ?_) (fun h => ?_)
  · rw [if_neg (fun z => nomatch z), va_rf_some, P.i1, Option.bind_some]
    rfl
  · rw [if_pos rfl]; rfl
theorem q_bestColumn (X : XC G D N hs.1 x sv a ia ow dq sa ea hd gs fs fi ar) (hF : Fi hs) (md : Md fi ar) (C : CH G D hs.1) : CQ (t_Ev (t_pg G) t_hd Y_X1_bestColumn 0 ([some (.ref x), none], [], hs)) hs (.inr (bsR (ar 0) fun t => t.2.2.1)) := by
  rw [b_X1_bestColumn_0]
  refine q_bst X hF md C (fun o h t C' P t0 t4 => ?_) (fun h => ?_)
  · rw [if_neg (fun z => nomatch z), va_rf_some, P.i2, Option.bind_some]
    rfl
  · rw [if_pos rfl]; rfl
theorem q_bestRow (X : XC G D N hs.1 x sv a ia ow dq sa ea hd gs fs fi ar) (hF : Fi hs) (md : Md fi ar) (C : CH G D hs.1) : CQ (t_Ev (t_pg G) t_hd Y_X1_bestRow 0 ([some (.ref x), none], [], hs)) hs (.inr (bsR (ar 0) fun t => t.2.2.2)) := by
  rw [b_X1_bestRow_0]
  refine q_bst X hF md C (fun o h t C' P t0 t4 => ?_) (fun h => ?_)
  · rw [if_neg (fun z => nomatch z), va_rf_some, P.i3, Option.bind_some]
    rfl
  · rw [if_pos rfl]; rfl
theorem q_playerToMove (X : XC G D N hs.1 x sv a ia ow dq sa ea hd gs fs fi ar) (hF : Fi hs) (md : Md fi ar) : CQ (t_Ev (t_pg G) t_hd Y_X1_playerToMove 0 ([some (.ref x)], [], hs)) hs (.inr (if ovr (ar 0) = true then -1 else ar 0 2)) := by
  refine CQ.ret hF ?_
  rw [b_X1_playerToMove_0, X.g1, Option.bind_some, va_rf_some, X.gm.k, Option.bind_some, c_isFinished X.gm md.w.rb, bI_rB]
  simp only [bB_0]
  cases ovr (ar 0) with
  | false => rw [if_pos rfl, X.g1, Option.bind_some, va_rf_some, X.gm.i9]; rfl
  | true => rfl
theorem q_isOver (X : XC G D N hs.1 x sv a ia ow dq sa ea hd gs fs fi ar) (hF : Fi hs) (md : Md fi ar) : CQ (t_Ev (t_pg G) t_hd Y_X1_isOver 0 ([some (.ref x)], [], hs)) hs (.inr (bB (ovr (ar 0)))) := by
  refine CQ.ret hF ?_
  rw [b_X1_isOver_0, X.g1, Option.bind_some, va_rf_some, X.gm.k, Option.bind_some, c_isFinished X.gm md.w.rb, bI_rB, if_pos bB_ok]
  rfl
/-- the leader -/
def ldR' (s : tRow) : Int := if ofS s 0 0 - ofS s 1 0 = 0 then -1 else if 0 < ofS s 0 0 - ofS s 1 0 then 0 else 1
theorem q_leader (X : XC G D N hs.1 x sv a ia ow dq sa ea hd gs fs fi ar) (hF : Fi hs) (md : Md fi ar) : CQ (t_Ev (t_pg G) t_hd Y_X1_leader 0 ([some (.ref x), none], [], hs)) hs (.inr (ldR' (ar 0))) := by
  have r0 : 0 ≤ ofS (ar 0) 0 0 ∧ ofS (ar 0) 0 0 ≤ 1000000 := md.w.rb _
  have r1 : 0 ≤ ofS (ar 0) 1 0 ∧ ofS (ar 0) 1 0 ≤ 1000000 := md.w.rb _
  obtain ⟨pa, b, su, nm, f, g1, g2, g3, -⟩ := X.gm.pl (p := 0) (by decide) (by decide) (by decide)
  obtain ⟨pa', b', su', nm', f', g1', g2', g3', -⟩ := X.gm.pl (p := 1) (by decide) (by decide) (by decide)
  have pe : pa' = pa := by rw [g1] at g1'; cases g1'; rfl
  rw [pe] at g2'
  refine CQ.ret hF ?_
  rw [b_X1_leader_0, X.g1, Option.bind_some, va_rf_some, g1, Option.bind_some, va_rf_some, g2, Option.bind_some, va_rf_some, gfI_at (k := 3) (x := iI (ofS (ar 0) 0 0)) g3 rfl, Option.bind_some, Option.bind_some, va_rf_some, g1, Option.bind_some, va_rf_some, g2', Option.bind_some, va_rf_some, gfI_at (k := 3) (x := iI (ofS (ar 0) 1 0)) g3' rfl, Option.bind_some, iI_sub]
  simp (disch := omega) only [iI_inj, iI_lt]
  unfold ldR'
  by_cases c : ofS (ar 0) 0 0 - ofS (ar 0) 1 0 = 0
  · rw [if_pos c, if_pos c]; rfl
  · rw [if_neg c, if_neg c]
    by_cases c2 : 0 < ofS (ar 0) 0 0 - ofS (ar 0) 1 0
    · rw [if_pos c2, if_pos c2]; rfl
    · rw [if_neg c2, if_neg c2]; rfl
theorem q_bestStrapEffect (X : XC G D N hs.1 x sv a ia ow dq sa ea hd gs fs fi ar) (hF : Fi hs) (md : Md fi ar) (C : CH G D hs.1) : CQ (t_Ev (t_pg G) t_hd Y_X1_bestStrapEffect 0 ([some (.ref x)], [], hs)) hs (.inr (if ovr (ar 0) = true then -1 else seC (ar 0) (ctE (ar 0)))) := by
  rw [b_X1_bestStrapEffect_0, X.g1, Option.bind_some, va_rf_some, X.gm.k, Option.bind_some, c_isFinished X.gm md.w.rb, bI_rB]
  simp only [bB_0]
  cases ovr (ar 0) with
  | true => exact CQ.ret hF rfl
  | false =>
    obtain ⟨h1, e, m⟩ := c_strapEffect (G := G) hF X.gm C md.w.bd.dm md.w.rb md.w.py.mv.2
    rw [if_pos rfl, X.g1, Option.bind_some, va_rf_some, X.gm.k, Option.bind_some, e, bI_rI]
    exact CQ.ex rfl m (by decide) (by decide)
theorem q_outputByte (X : XC G D N hs.1 x sv a ia ow dq sa ea hd gs fs fi ar) (hF : Fi hs) (md : Md fi ar) {k : Int} (h1 : InR k) : CQ (t_Ev (t_pg G) t_hd Y_X1_outputByte 0 ([some (.ref x), some (.int (iI k))], [], hs)) hs (.inr (if isB k 0 (fi 14 - 1) = true then ar 9 k.toNat else -1)) := by
  have o := md.o14
  obtain ⟨-, bb, hv, hz, vq, s1, -⟩ := id X.ou
  refine CQ.ret hF ?_
  rw [b_X1_outputByte_0]
  simp (disch := omega) only [iI_lt]
  by_cases c1 : k < 0
  · rw [if_pos c1, if_neg (show ¬ isB k 0 (fi 14 - 1) = true from fun z => by have := isB_iff.mp z; omega)]; rfl
  · rw [if_neg c1, gfR_at (k := 6) (q := ow) X.ob rfl, Option.bind_some, va_rf_some, kN_at s1, Option.bind_some, c_sLen X.ou, bI_rI]
    simp (disch := omega) only [iI_lt]
    by_cases c2 : k < fi 14
    · have ka := c_sAt (G := G) X.ou (by omega) (j := k.toNat) (by omega) (md.o9 k.toNat (by omega))
      rw [Int.toNat_of_nonneg (by omega)] at ka
      rw [if_pos (by omega), gfR_at (k := 6) (q := ow) X.ob rfl, Option.bind_some, va_rf_some, kN_at s1, Option.bind_some, ka, bI_rI, if_pos (show isB k 0 (fi 14 - 1) = true from isB_iff.mpr (by omega))]
      rfl
    · rw [if_neg (by omega), if_neg (show ¬ isB k 0 (fi 14 - 1) = true from fun z => by have := isB_iff.mp z; omega)]
      rfl
/-- no placement covers the empty cell -/
def ddB (s : tRow) (u w : Int) : Bool := decide (cI s u w = 0) && !rcS s (w * 8 + u).toNat
theorem q_isDead (X : XC G D N hs.1 x sv a ia ow dq sa ea hd gs fs fi ar) (hF : Fi hs) (md : Md fi ar) (C : CH G D hs.1) (L : ∃ b, hs.1 (G.1 11) = some (b, 106, .inl [])) {u w : Int} (h1 : InR u) (h2 : InR w) : CQ (t_Ev (t_pg G) t_hd Y_X1_isDead 0 ([some (.ref x), some (.int (iI u)), some (.int (iI w))], [], hs)) hs (if inB (ar 0) u w = true then .inr (bB (ddB (ar 0) u w)) else .inl 17) := by
  rw [b_X1_isDead_0, X.kx, Option.bind_some, c_checkCell X md h1 h2]
  cases c : inB (ar 0) u w with
  | false => exact CQ.thr hF rfl
  | true =>
    have hi := inB_7 md.w.bd.dm c
    have hc := md.w.rb.c u w
    rw [if_pos rfl, if_pos rfl, bV_rV, X.g1, Option.bind_some, va_rf_some, X.gm.k, Option.bind_some, c_cell X.gm (by omega) (by omega) (by omega) (by omega), bI_rI]
    simp only [enc_m1 hc.1 hc.2]
    unfold ddB
    by_cases c0 : cI (ar 0) u w = 0
    · obtain ⟨h', f, e, m, a1, a2⟩ := c_reach (G := G) (ax := x) (o := none) hF X.gm C md.w.bd.dm md.w.rb ⟨true, _, X.ob, rfl⟩ L
      have X' := X.ex hF m md.o199
      refine CQ.ex (v := bB (decide (cI (ar 0) u w = 0) && !rcS (ar 0) (w * 8 + u).toNat)) ?_ m (by decide) (by decide)
      rw [if_pos c0, X.kx, Option.bind_some, bR_ex e, X'.g1, Option.bind_some, va_rf_some, X'.gm.k, Option.bind_some, c_indexOf, bI_rI, va_rf_some, ldI_at a1 (Or.inl rfl) (by omega) (by omega) (by decide), Option.bind_some, a2 _ (by omega), decide_eq_true c0]
      simp only [bB_0]
      cases rcS (ar 0) (w * 8 + u).toNat <;> rfl
    · rw [if_neg c0, decide_eq_false c0]
      exact CQ.ret hF rfl
/-- how many are dead -/
def ddN (s : tRow) : Int := sm (fun y => sm (fun x => bB (ddB s x y)) (s 0).toNat) (s 1).toNat
theorem c_dead23 (X : XC G D N hs.1 x sv a ia ow dq sa ea hd gs fs fi ar) (md : Md fi ar) {ra : Nat} {f : Nat → Int32} (a1 : hs.1 ra = some (true, 1, .inr (64, .inl f))) (a2 : ∀ j, j < 64 → f j = iI (bB (rcS (ar 0) j))) {y q : Int} (h1 : 0 ≤ y ∧ y ≤ 7) : t_Ev (t_pg G) t_hd Y_X1_deadCells 23 ([some (.ref x), some (.ref ra), some (.int (iI q)), some (.int (iI y)), some (.int (iI 0))], [], hs) = t_Ev (t_pg G) t_hd Y_X1_deadCells 9 ([some (.ref x), some (.ref ra), some (.int (iI (q + sm (fun x => bB (ddB (ar 0) x y)) (ar 0 0).toNat))), some (.int (iI (y + 1))), some (.int (iI (ar 0 0)))], [], hs) := by
  have hd := md.w.bd.dm.1
  have hn := tn_of hd.1
  have lo := lp_up (N := (ar 0 0).toNat) (F := fun k => t_Ev (t_pg G) t_hd Y_X1_deadCells 23 ([some (.ref x), some (.ref ra), some (.int (iI (q + sm (fun x => bB (ddB (ar 0) x y)) k))), some (.int (iI y)), some (.int (iI (k : Int)))], [], hs)) fun k hk => by
    have hc := md.w.rb.c k y
    rw [b_X1_deadCells_23, X.g1, Option.bind_some, va_rf_some, X.gm.i1, Option.bind_some]
    simp (disch := omega) only [iI_lt]
    rw [if_pos (by omega), Option.bind_some, va_rf_some, X.gm.k, Option.bind_some, c_cell X.gm (by omega) (by omega) (by omega) (by omega), bI_rI]
    simp only [enc_m1 hc.1 hc.2, iI_add, sm]
    rw [← Int.add_assoc, X.g1, Option.bind_some, va_rf_some, X.gm.k, Option.bind_some, c_indexOf, bI_rI, ldI_at a1 (Or.inl rfl) (by omega) (by omega) (by decide), Option.bind_some, a2 _ (by omega)]
    simp only [bB_0]
    unfold ddB
    by_cases c0 : cI (ar 0) k y = 0
    · rw [if_pos c0, decide_eq_true c0]
      cases rcS (ar 0) (y * 8 + k).toNat <;> rfl
    · rw [if_neg c0, decide_eq_false c0]
      rfl
  dsimp only [sm] at lo
  rw [Int.add_zero] at lo
  refine Eq.trans lo ?_
  rw [b_X1_deadCells_23, X.g1, Option.bind_some, va_rf_some, X.gm.i1, Option.bind_some]
  simp (disch := omega) only [iI_lt]
  rw [if_neg (by omega), hn, iI_add]
theorem q_deadCells (X : XC G D N hs.1 x sv a ia ow dq sa ea hd gs fs fi ar) (hF : Fi hs) (md : Md fi ar) (C : CH G D hs.1) (L : ∃ b, hs.1 (G.1 11) = some (b, 106, .inl [])) : CQ (t_Ev (t_pg G) t_hd Y_X1_deadCells 0 ([some (.ref x), none, none, none, none], [], hs)) hs (.inr (ddN (ar 0))) := by
  have hd := md.w.bd.dm.2
  have hn := tn_of hd.1
  obtain ⟨h', f, e, m, a1, a2⟩ := c_reach (G := G) (ax := x) (o := none) hF X.gm C md.w.bd.dm md.w.rb ⟨true, _, X.ob, rfl⟩ L
  have X' := X.ex hF m md.o199
  refine CQ.ex ?_ m (by decide) (by decide)
  rw [b_X1_deadCells_0, X.kx, Option.bind_some, bR_ex e, va_rf_some]
  have lo := lp_up (N := (ar 0 1).toNat) (F := fun k => t_Ev (t_pg G) t_hd Y_X1_deadCells 9 ([some (.ref x), some (.ref hs.2.1), some (.int (iI (sm (fun y => sm (fun x => bB (ddB (ar 0) x y)) (ar 0 0).toNat) k))), some (.int (iI (k : Int))), (if k = 0 then none else some (.int (iI (ar 0 0))))], [], h')) fun k hk => by
    rw [b_X1_deadCells_9, X'.g1, Option.bind_some, va_rf_some, X'.gm.i2, Option.bind_some]
    simp (disch := omega) only [iI_lt]
    rw [if_pos (by omega), c_dead23 X' md a1 a2 (by omega), if_neg (Nat.succ_ne_zero k)]
    rfl
  refine Eq.trans lo ?_
  try dsimp only
  rw [b_X1_deadCells_9, X'.g1, Option.bind_some, va_rf_some, X'.gm.i2, Option.bind_some]
  simp (disch := omega) only [iI_lt]
  rw [if_neg (by omega)]
  rfl
end QT
