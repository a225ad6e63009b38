/-! ===== the component's queries: placements, players, pieces ===== -/
/-- an answer that asks for a shape, a rotation, a cell -/
def plR (s : tRow) (sh r u w : Int) (v : Nat ⊕ Int) : Nat ⊕ Int := if (isB sh 0 4 && isB r 0 3) = true then (if inB s u w = true then v else .inl 17) else .inl 15
/-- an answer that asks for a player -/
def pyR (p : Int) (v : Nat ⊕ Int) : Nat ⊕ Int := if isB p 0 1 = true then v else .inl 17
section QS
variable {G : tG} {D N : Nat → Prop} {hs : tHS} {x sv a ia ow dq sa ea hd : Nat} {gs : Nat → Nat} {fs : Nat → Option Nat} {fi : Nat → Int} {ar : Nat → Nat → Int}
theorem c_placement (X : XC G D N hs.1 x sv a ia ow dq sa ea hd gs fs fi ar) (hF : Fi hs) (md : Md fi ar) {sh r u w : Int} (h1 : InR sh) (h2 : InR r) (h3 : InR u) (h4 : InR w) :
    if (isB sh 0 4 && isB r 0 3) = true then (if inB (ar 0) u w = true then ∃ hs', t_Ev (t_pg G) t_hd Y_X1_placement 0 ([some (.ref x), some (.int (iI sh)), some (.int (iI r)), some (.int (iI u)), some (.int (iI w))], [], hs) = rR (some hs.2.1) hs' ∧ Ex 1 4 hs hs' ∧ hs'.1 hs.2.1 = some (true, 5, .inl [.ref (G.1 sh.toNat), .int (iI r), .int (iI u), .int (iI w)]) else t_Ev (t_pg G) t_hd Y_X1_placement 0 ([some (.ref x), some (.int (iI sh)), some (.int (iI r)), some (.int (iI u)), some (.int (iI w))], [], hs) = tTh 17 hs) else t_Ev (t_pg G) t_hd Y_X1_placement 0 ([some (.ref x), some (.int (iI sh)), some (.int (iI r)), some (.int (iI u)), some (.int (iI w))], [], hs) = tTh 15 hs := by
  rw [b_X1_placement_0, X.kx, Option.bind_some, c_checkRange h1 (by omega) (by omega)]
  cases c1 : isB sh 0 4 with
  | false => rfl
  | true =>
    have s1 := isB_iff.mp c1
    rw [if_pos rfl, bV_rV, X.kx, Option.bind_some, c_checkRange h2 (by omega) (by omega)]
    cases c2 : isB r 0 3 with
    | false => rfl
    | true =>
      rw [if_pos rfl, bV_rV, X.kx, Option.bind_some, c_checkCell X md h3 h4]
      cases c3 : inB (ar 0) u w with
      | false => rfl
      | true =>
        rw [if_pos rfl, if_pos (show (true && true) = true from rfl), if_pos rfl, bV_rV]
        obtain ⟨h, q⟩ : ∃ h, h = t_al hs (true, 5, .inl [.null, .int (iI 0), .int (iI 0), .int (iI 0)]) 4 := ⟨_, rfl⟩
        have m : Ex 1 4 hs h := by rw [q]; exact Ex.al hF
        have z : h.1 hs.2.1 = some (true, 5, .inl [.null, .int (iI 0), .int (iI 0), .int (iI 0)]) := by rw [q]; exact t_up_s
        rw [← q]
        have ob : h.1 x = _ := (m.1 x (hF.lt X.ob) (fun z => z)).trans X.ob
        obtain ⟨d, b, f, v1, v2⟩ := X.sh.kp (Kp.ex hF m)
        rw [gfR_at (k := 0) (q := sv) ob rfl, Option.bind_some, va_rf_some, ldR_at v1 (by decide) s1.1 (by omega) (by decide), Option.bind_some, v2 _ (by omega), va_rf_some, c_plInit z, bV_rV]
        exact ⟨_, rfl, m.up z (Nat.le_refl _), t_up_s⟩
theorem q_plQ (X : XC G D N hs.1 x sv a ia ow dq sa ea hd gs fs fi ar) (hF : Fi hs) (md : Md fi ar) {sh r u w : Int} (h1 : InR sh) (h2 : InR r) (h3 : InR u) (h4 : InR w) {K : Option Nat → tHS → Option tRS} {v : Nat ⊕ Int}
    (hv : isB sh 0 4 = true → isB r 0 3 = true → inB (ar 0) u w = true → ∀ hs', Ex 1 4 hs hs' → XC G D N hs'.1 x sv a ia ow dq sa ea hd gs fs fi ar → Fi hs' → hs'.1 hs.2.1 = some (true, 5, .inl [.ref (G.1 sh.toNat), .int (iI r), .int (iI u), .int (iI w)]) → CQ (K (some hs.2.1) hs') hs v) :
    CQ (bndR (t_Ev (t_pg G) t_hd Y_X1_placement 0 ([some (.ref x), some (.int (iI sh)), some (.int (iI r)), some (.int (iI u)), some (.int (iI w))], [], hs)) K tX) hs (plR (ar 0) sh r u w v) := by
  have p := c_placement (G := G) X hF md h1 h2 h3 h4
  unfold plR
  cases c1 : (isB sh 0 4 && isB r 0 3) with
  | false =>
    rw [if_neg (by rw [c1]; decide)] at p
    rw [p]
    exact CQ.thr hF rfl
  | true =>
    rw [if_pos c1] at p
    rw [if_pos rfl]
    rw [Bool.and_eq_true] at c1
    cases c3 : inB (ar 0) u w with
    | false =>
      rw [if_neg (by rw [c3]; decide)] at p
      rw [p]
      exact CQ.thr hF rfl
    | true =>
      rw [if_pos c3] at p
      obtain ⟨h, e, m, z⟩ := p
      rw [if_pos rfl, bR_ex e]
      exact hv c1.1 c1.2 c3 h m (X.ex hF m md.o199) m.2.2.2 z
theorem q_fits (X : XC G D N hs.1 x sv a ia ow dq sa ea hd gs fs fi ar) (hF : Fi hs) (md : Md fi ar) (C : CH G D hs.1) {sh r u w : Int} (h1 : InR sh) (h2 : InR r) (h3 : InR u) (h4 : InR w) : CQ (t_Ev (t_pg G) t_hd Y_X1_fits 0 ([some (.ref x), some (.int (iI sh)), some (.int (iI r)), some (.int (iI u)), some (.int (iI w))], [], hs)) hs (plR (ar 0) sh r u w (.inr (bB (decide (mf (ar 0) sh r u w = 0))))) := by
  rw [b_X1_fits_0, X.g1, Option.bind_some, X.kx, Option.bind_some]
  refine q_plQ X hF md h1 h2 h3 h4 fun c1 c2 c3 h m X' F' z => ?_
  have b1 := isB_iff.mp c1
  have b2 := isB_iff.mp c2
  have b3 := inB_7 md.w.bd.dm c3
  refine CQ.ex ?_ m (by decide) (by decide)
  rw [va_rf_some, X'.gm.k, Option.bind_some, va_rf_some, c_isFitting X'.gm.tr (C.kp (Kp.ex hF m)).tr ⟨trivial, z⟩ md.w.bd.dm md.w.rb b1.1 b1.2 b2.1 b2.2 b3.1 b3.2, bI_rB, if_pos bB_ok]
  rfl
theorem q_misfitReason (X : XC G D N hs.1 x sv a ia ow dq sa ea hd gs fs fi ar) (hF : Fi hs) (md : Md fi ar) (C : CH G D hs.1) {sh r u w : Int} (h1 : InR sh) (h2 : InR r) (h3 : InR u) (h4 : InR w) : CQ (t_Ev (t_pg G) t_hd Y_X1_misfitReason 0 ([some (.ref x), some (.int (iI sh)), some (.int (iI r)), some (.int (iI u)), some (.int (iI w))], [], hs)) hs (plR (ar 0) sh r u w (.inr (mf (ar 0) sh r u w))) := by
  rw [b_X1_misfitReason_0, X.g1, Option.bind_some, X.kx, Option.bind_some]
  refine q_plQ X hF md h1 h2 h3 h4 fun c1 c2 c3 h m X' F' z => ?_
  have b1 := isB_iff.mp c1
  have b2 := isB_iff.mp c2
  have b3 := inB_7 md.w.bd.dm c3
  refine CQ.ex ?_ m (by decide) (by decide)
  rw [va_rf_some, X'.gm.k, Option.bind_some, va_rf_some, c_reasonAgainst X'.gm.tr (C.kp (Kp.ex hF m)).tr ⟨trivial, z⟩ md.w.bd.dm md.w.rb b1.1 b1.2 b2.1 b2.2 b3.1 b3.2, bI_rI]
  rfl
theorem q_pointsFor (X : XC G D N hs.1 x sv a ia ow dq sa ea hd gs fs fi ar) (hF : Fi hs) (md : Md fi ar) (C : CH G D hs.1) {sh r u w : Int} (h1 : InR sh) (h2 : InR r) (h3 : InR u) (h4 : InR w) : CQ (t_Ev (t_pg G) t_hd Y_X1_pointsFor 0 ([some (.ref x), some (.int (iI sh)), some (.int (iI r)), some (.int (iI u)), some (.int (iI w)), none], [], hs)) hs (plR (ar 0) sh r u w (.inr (if mf (ar 0) sh r u w = 0 then pts (ar 0) sh r w else -1))) := by
  rw [b_X1_pointsFor_0, X.kx, Option.bind_some]
  refine q_plQ X hF md h1 h2 h3 h4 fun c1 c2 c3 h m X' F' z => ?_
  have b1 := isB_iff.mp c1
  have b2 := isB_iff.mp c2
  have b3 := inB_7 md.w.bd.dm c3
  have C' := (C.kp (Kp.ex hF m)).tr
  refine CQ.ex ?_ m (by decide) (by decide)
  rw [X'.g1, Option.bind_some, va_rf_some, X'.gm.k, Option.bind_some, va_rf_some, c_isFitting X'.gm.tr C' ⟨trivial, z⟩ md.w.bd.dm md.w.rb b1.1 b1.2 b2.1 b2.2 b3.1 b3.2, bI_rB]
  simp only [bB_0]
  by_cases c : mf (ar 0) sh r u w = 0
  · rw [if_pos c, decide_eq_true c, if_neg (by decide), X'.g1, Option.bind_some, va_rf_some, X'.gm.k, Option.bind_some, c_pointsOf X'.gm.tr C' ⟨trivial, z⟩ md.w.bd.dm md.w.rb b1.1 b1.2 b2.1 b2.2 b3.1 b3.2, bI_rI]
    rfl
  · rw [if_neg c, decide_eq_false c, if_pos rfl]
    rfl
theorem c_playerAt (X : XC G D N hs.1 x sv a ia ow dq sa ea hd gs fs fi ar) {p : Int} (h1 : InR p) :
    if isB p 0 1 = true then ∃ b su nm f, t_Ev (t_pg G) t_hd Y_X1_playerAt 0 ([some (.ref x), some (.int (iI p))], [], hs) = rR (some b) hs ∧ hs.1 b = some (true, 3, .inl [.ref nm, .ref su, .int (iI (ofS (ar 0) p 1)), .int (iI (ofS (ar 0) p 0))]) ∧ hs.1 su = some (true, 0, .inr (5, .inl f)) ∧ (∀ k : Nat, k < 5 → f k = iI (ofS (ar 0) p (2 + (k : Nat)))) ∧ ST D hs.1 nm (ofS (ar 0) p 7).toNat (fun j => ofS (ar 0) p (8 + (j : Nat))) ∧ 0 ≤ ofS (ar 0) p 7 ∧ ofS (ar 0) p 7 ≤ 6 else t_Ev (t_pg G) t_hd Y_X1_playerAt 0 ([some (.ref x), some (.int (iI p))], [], hs) = tTh 17 hs := by
  rw [b_X1_playerAt_0]
  simp (disch := omega) only [iI_lt]
  by_cases c1 : p < 0
  · rw [if_neg (show ¬ isB p 0 1 = true from fun z => by have := isB_iff.mp z; omega), if_pos c1, X.kx, Option.bind_some, show iI 0 = iI (bB false) from rfl, c_checkIndex]
    rfl
  · by_cases c2 : p < 2
    · obtain ⟨pa, b, su, nm, f, g1, g2, g3, g4, g5, g6, g7⟩ := X.gm.pl (p := p) (by omega) (by omega) (by omega)
      rw [if_pos (show isB p 0 1 = true from isB_iff.mpr (by omega)), if_neg c1, if_pos c2, X.kx, Option.bind_some, show iI 1 = iI (bB true) from rfl, c_checkIndex, if_pos rfl, bV_rV, X.g1, Option.bind_some, va_rf_some, g1, Option.bind_some, va_rf_some, g2, Option.bind_some]
      exact ⟨b, su, nm, f, rfl, g3, g4, g5, g6, g7⟩
    · rw [if_neg (show ¬ isB p 0 1 = true from fun z => by have := isB_iff.mp z; omega), if_neg c1, if_neg c2, X.kx, Option.bind_some, show iI 0 = iI (bB false) from rfl, c_checkIndex]
      rfl
theorem q_score (X : XC G D N hs.1 x sv a ia ow dq sa ea hd gs fs fi ar) (hF : Fi hs) {p : Int} (h1 : InR p) : CQ (t_Ev (t_pg G) t_hd Y_X1_score 0 ([some (.ref x), some (.int (iI p))], [], hs)) hs (pyR p (.inr (ofS (ar 0) p 0))) := by
  have q := c_playerAt (G := G) X h1
  rw [b_X1_score_0, X.kx, Option.bind_some]
  unfold pyR
  cases c : isB p 0 1 with
  | false => rw [if_neg (by rw [c]; decide)] at q; rw [q]; exact CQ.thr hF rfl
  | true =>
    rw [if_pos c] at q
    obtain ⟨b, su, nm, f, e, g3, -⟩ := q
    exact CQ.ret hF (by rw [bR_ex e, va_rf_some, gfI_at (k := 3) (x := iI (ofS (ar 0) p 0)) g3 rfl]; rfl)
theorem q_strapsLeft (X : XC G D N hs.1 x sv a ia ow dq sa ea hd gs fs fi ar) (hF : Fi hs) {p : Int} (h1 : InR p) : CQ (t_Ev (t_pg G) t_hd Y_X1_strapsLeft 0 ([some (.ref x), some (.int (iI p))], [], hs)) hs (pyR p (.inr (ofS (ar 0) p 1))) := by
  have q := c_playerAt (G := G) X h1
  rw [b_X1_strapsLeft_0, X.kx, Option.bind_some]
  unfold pyR
  cases c : isB p 0 1 with
  | false => rw [if_neg (by rw [c]; decide)] at q; rw [q]; exact CQ.thr hF rfl
  | true =>
    rw [if_pos c] at q
    obtain ⟨b, su, nm, f, e, g3, -⟩ := q
    exact CQ.ret hF (by rw [bR_ex e, va_rf_some, gfI_at (k := 2) (x := iI (ofS (ar 0) p 1)) g3 rfl]; rfl)
theorem q_supply (X : XC G D N hs.1 x sv a ia ow dq sa ea hd gs fs fi ar) (hF : Fi hs) {p sh : Int} (h1 : InR p) (h2 : InR sh) : CQ (t_Ev (t_pg G) t_hd Y_X1_supply 0 ([some (.ref x), some (.int (iI p)), some (.int (iI sh)), none], [], hs)) hs (pyR p (if isB sh 0 4 = true then .inr (ofS (ar 0) p (2 + sh)) else .inl 15)) := by
  have q := c_playerAt (G := G) X h1
  rw [b_X1_supply_0, X.kx, Option.bind_some]
  unfold pyR
  cases c : isB p 0 1 with
  | false => rw [if_neg (by rw [c]; decide)] at q; rw [q]; exact CQ.thr hF rfl
  | true =>
    rw [if_pos c] at q
    obtain ⟨b, su, nm, f, e, g3, g4, g5, -⟩ := q
    rw [if_pos rfl, bR_ex e, X.kx, Option.bind_some, c_checkRange h2 (by omega) (by omega)]
    cases c2 : isB sh 0 4 with
    | false => exact CQ.thr hF rfl
    | true =>
      have b2 := isB_iff.mp c2
      refine CQ.ret hF ?_
      rw [if_pos rfl, bV_rV, va_rf_some, gfR_at (k := 1) (q := su) g3 rfl, Option.bind_some, va_rf_some, ldI_at g4 (by decide) b2.1 (by omega) (by decide), Option.bind_some, g5 _ (by omega), Int.toNat_of_nonneg b2.1]
      rfl
theorem q_nameByte (X : XC G D N hs.1 x sv a ia ow dq sa ea hd gs fs fi ar) (hF : Fi hs) (md : Md fi ar) {p k : Int} (h1 : InR p) (h2 : InR k) : CQ (t_Ev (t_pg G) t_hd Y_X1_nameByte 0 ([some (.ref x), some (.int (iI p)), some (.int (iI k)), none], [], hs)) hs (pyR p (.inr (if isB k 0 (ofS (ar 0) p 7 - 1) = true then ofS (ar 0) p (8 + k) else -1))) := by
  have q := c_playerAt (G := G) X h1
  rw [b_X1_nameByte_0, X.kx, Option.bind_some]
  unfold pyR
  cases c : isB p 0 1 with
  | false => rw [if_neg (by rw [c]; decide)] at q; rw [q]; exact CQ.thr hF rfl
  | true =>
    rw [if_pos c] at q
    obtain ⟨b, su, nm, f, e, g3, -, -, g6, g7, g8⟩ := q
    have bp := isB_iff.mp c
    obtain ⟨-, bb, hv, hz, vq, s1, -⟩ := id g6
    refine CQ.ret hF ?_
    rw [bR_ex e, va_rf_some, gfR_at (k := 0) (q := nm) g3 rfl, Option.bind_some, va_rf_some]
    simp (disch := omega) only [iI_lt]
    by_cases c1 : k < 0
    · rw [if_pos c1, show isB k 0 (ofS (ar 0) p 7 - 1) = false from Bool.eq_false_iff.mpr fun z => by have := isB_iff.mp z; omega]
      rfl
    · rw [if_neg c1, kN_at s1, Option.bind_some, c_sLen g6, bI_rI]
      simp (disch := omega) only [iI_lt]
      by_cases c2 : k < ofS (ar 0) p 7
      · have ka := c_sAt (G := G) g6 (by omega) (j := k.toNat) (by omega) (md.w.py.le p (8 + (k.toNat : Int)) (by omega) (by omega) (by omega))
        rw [Int.toNat_of_nonneg (by omega)] at ka
        rw [if_pos (by omega), kN_at s1, Option.bind_some, ka, bI_rI, show isB k 0 (ofS (ar 0) p 7 - 1) = true from isB_iff.mpr (by omega)]
        rfl
      · rw [if_neg (by omega), show isB k 0 (ofS (ar 0) p 7 - 1) = false from Bool.eq_false_iff.mpr fun z => by have := isB_iff.mp z; omega]
        rfl
theorem q_mobility (X : XC G D N hs.1 x sv a ia ow dq sa ea hd gs fs fi ar) (hF : Fi hs) (md : Md fi ar) (C : CH G D hs.1) {p : Int} (h1 : InR p) : CQ (t_Ev (t_pg G) t_hd Y_X1_mobility 0 ([some (.ref x), some (.int (iI p))], [], hs)) hs (pyR p (.inr (movs (ar 0) p))) := by
  have q := c_playerAt (G := G) X h1
  rw [b_X1_mobility_0, X.kx, Option.bind_some]
  unfold pyR
  cases c : isB p 0 1 with
  | false => rw [if_neg (by rw [c]; decide)] at q; rw [q]; exact CQ.thr hF rfl
  | true =>
    rw [if_pos c] at q
    obtain ⟨b, su, nm, f, e, -⟩ := q
    have bp := isB_iff.mp c
    obtain ⟨h', e', m⟩ := c_mobilityOf (G := G) hF X.gm C md.w.bd.dm md.w.rb bp.1 bp.2
    refine CQ.ex ?_ m (by decide) (by decide)
    rw [bR_ex e, X.g1, Option.bind_some, va_rf_some, X.gm.k, Option.bind_some, e', bI_rI]
    rfl
theorem q_fittingPlacements (X : XC G D N hs.1 x sv a ia ow dq sa ea hd gs fs fi ar) (hF : Fi hs) (md : Md fi ar) (C : CH G D hs.1) {sh : Int} (h1 : InR sh) : CQ (t_Ev (t_pg G) t_hd Y_X1_fittingPlacements 0 ([some (.ref x), some (.int (iI sh))], [], hs)) hs (if isB sh 0 4 = true then .inr (fitc (ar 0) sh) else .inl 15) := by
  rw [b_X1_fittingPlacements_0, X.kx, Option.bind_some, c_checkRange h1 (by omega) (by omega)]
  cases c : isB sh 0 4 with
  | false => exact CQ.thr hF rfl
  | true =>
    have b := isB_iff.mp c
    have x1 : Ex 1 1 hs (t_al hs (true, 108, .inl [.int (iI sh)]) 1) := Ex.al hF
    have c1 : (t_al hs (true, 108, .inl [.int (iI sh)]) 1).1 hs.2.1 = some (true, 108, .inl [.int (iI sh)]) := t_up_s
    have k1 : ∀ T, Kp T hs.1 (t_al hs (true, 108, .inl [.int (iI sh)]) 1).1 := fun T => Kp.ex hF x1
    rw [if_pos rfl, if_pos rfl, bV_rV, X.g1, Option.bind_some, va_rf_some]
    generalize t_al hs (true, 108, .inl [.int (iI sh)]) 1 = h1 at x1 c1 k1 ⊢
    have H1 := X.gm.kp (k1 _)
    obtain ⟨h', e', m⟩ := c_countFitting (G := G) (fl := hs.2.1) (φ := fun k => decide (k = sh)) x1.fi H1 (C.kp (k1 _)) md.w.bd.dm md.w.rb (fun h hx k h3 h4 => by
      have k2 : ∀ T, Kp T h1.1 h.1 := fun T => Kp.ex x1.fi hx
      have C2 := (C.kp (k1 _)).kp (k2 _)
      refine ⟨_, _, _, tfn_of (k2 (fun _ => true) _ _ c1 rfl) rfl rfl ⟨rfl, Or.inl rfl⟩, ?_⟩
      show t_Ev (t_pg G) t_hd Y_X1_lambda_fittingPlacements_0 0 ([some (.int (iI sh)), some (.ref (G.1 k.toNat))], [], h) = _
      rw [b_X1_lambda_fittingPlacements_0_0, C2.k h3 h4, Option.bind_some, c_ordinal C2 h3 h4, bI_rI]
      simp (disch := omega) only [iI_inj]
      exact rB_dec)
    refine CQ.ex (v := fitc (ar 0) sh) ?_ (x1.trans m) (by decide) (by decide)
    rw [H1.k, Option.bind_some, e', bI_rI]
    refine rI_cg ?_
    rcases rcs5 b.1 b.2 with rfl | rfl | rfl | rfl | rfl <;> simp [sm]
theorem c_piece (X : XC G D N hs.1 x sv a ia ow dq sa ea hd gs fs fi ar) (md : Md fi ar) {k : Int} (h1 : InR k) :
    if isB k 0 (ar 0 4 - 1) = true then ∃ b q, t_Ev (t_pg G) t_hd Y_X1_piece 0 ([some (.ref x), some (.int (iI k))], [], hs) = rR (some b) hs ∧ hs.1 b = some (true, 4, .inl [.ref q, .int (iI (ar 0 (pcI k.toNat 4))), .int (iI (ar 0 (pcI k.toNat 5)))]) ∧ PL G D hs.1 q (ar 0 (pcI k.toNat 0)) (ar 0 (pcI k.toNat 1)) (ar 0 (pcI k.toNat 2)) (ar 0 (pcI k.toNat 3)) else t_Ev (t_pg G) t_hd Y_X1_piece 0 ([some (.ref x), some (.int (iI k))], [], hs) = tTh 17 hs := by
  have np := md.w.bd.np
  rw [b_X1_piece_0, X.g1]
  simp (disch := omega) only [iI_lt]
  by_cases c1 : k < 0
  · rw [if_neg (show ¬ isB k 0 (ar 0 4 - 1) = true from fun z => by have := isB_iff.mp z; omega), if_pos c1, X.kx, Option.bind_some, show iI 0 = iI (bB false) from rfl, c_checkIndex]
    rfl
  · simp only [Option.bind_some, va_rf_some, X.gm.i8]
    simp (disch := omega) only [iI_lt]
    by_cases c2 : k < ar 0 4
    · obtain ⟨qa, b, q, g1, g2, g3, g4⟩ := X.gm.pc (k := k) (by omega) c2 np.2
      rw [if_pos (show isB k 0 (ar 0 4 - 1) = true from isB_iff.mpr (by omega)), if_neg c1, if_pos c2, X.kx, Option.bind_some, show iI 1 = iI (bB true) from rfl, c_checkIndex, if_pos rfl, bV_rV, X.g1, Option.bind_some, va_rf_some, g1, Option.bind_some, va_rf_some, g2, Option.bind_some]
      exact ⟨b, q, rfl, g3, g4⟩
    · rw [if_neg (show ¬ isB k 0 (ar 0 4 - 1) = true from fun z => by have := isB_iff.mp z; omega), if_neg c1, if_neg c2, X.kx, Option.bind_some, show iI 0 = iI (bB false) from rfl, c_checkIndex]
      rfl
/-- an answer that asks for a piece -/
def pcR (s : tRow) (k : Int) (j : Nat) : Nat ⊕ Int := if isB k 0 (s 4 - 1) = true then .inr (s (pcI k.toNat j)) else .inl 17
theorem q_pcQ (X : XC G D N hs.1 x sv a ia ow dq sa ea hd gs fs fi ar) (hF : Fi hs) (md : Md fi ar) {k : Int} (h1 : InR k) {j : Nat} {K : Option Nat → tHS → Option tRS}
    (hv : ∀ b q, PcB (ar 0) k.toNat → hs.1 b = some (true, 4, .inl [.ref q, .int (iI (ar 0 (pcI k.toNat 4))), .int (iI (ar 0 (pcI k.toNat 5)))]) → PL G D hs.1 q (ar 0 (pcI k.toNat 0)) (ar 0 (pcI k.toNat 1)) (ar 0 (pcI k.toNat 2)) (ar 0 (pcI k.toNat 3)) → K (some b) hs = rI (ar 0 (pcI k.toNat j)) hs) :
    CQ (bndR (t_Ev (t_pg G) t_hd Y_X1_piece 0 ([some (.ref x), some (.int (iI k))], [], hs)) K tX) hs (pcR (ar 0) k j) := by
  have p := c_piece (G := G) X md h1
  unfold pcR
  cases c : isB k 0 (ar 0 4 - 1) with
  | false => rw [if_neg (by rw [c]; decide)] at p; rw [p]; exact CQ.thr hF rfl
  | true =>
    have b := isB_iff.mp c
    rw [if_pos c] at p
    obtain ⟨b', q, e, g1, g2⟩ := p
    rw [if_pos rfl, bR_ex e]
    exact CQ.ret hF (hv b' q (md.w.bd.pc k.toNat (by omega)) g1 g2)
theorem q_pieceShape (X : XC G D N hs.1 x sv a ia ow dq sa ea hd gs fs fi ar) (hF : Fi hs) (md : Md fi ar) (C : CH G D hs.1) {k : Int} (h1 : InR k) : CQ (t_Ev (t_pg G) t_hd Y_X1_pieceShape 0 ([some (.ref x), some (.int (iI k))], [], hs)) hs (pcR (ar 0) k 0) := by
  rw [b_X1_pieceShape_0, X.kx, Option.bind_some]
  refine q_pcQ X hF md h1 fun b q pb g1 g2 => ?_
  rw [va_rf_some, gfR_at (k := 0) (q := q) g1 rfl, Option.bind_some, va_rf_some, g2.r0, Option.bind_some, va_rf_some, C.k pb.1.1 pb.1.2, Option.bind_some, c_ordinal C pb.1.1 pb.1.2, bI_rI]
  rfl
theorem q_pieceRotation (X : XC G D N hs.1 x sv a ia ow dq sa ea hd gs fs fi ar) (hF : Fi hs) (md : Md fi ar) {k : Int} (h1 : InR k) : CQ (t_Ev (t_pg G) t_hd Y_X1_pieceRotation 0 ([some (.ref x), some (.int (iI k))], [], hs)) hs (pcR (ar 0) k 1) := by
  rw [b_X1_pieceRotation_0, X.kx, Option.bind_some]
  refine q_pcQ X hF md h1 fun b q pb g1 g2 => ?_
  rw [va_rf_some, gfR_at (k := 0) (q := q) g1 rfl, Option.bind_some, va_rf_some, g2.i1, Option.bind_some]
  rfl
theorem q_pieceColumn (X : XC G D N hs.1 x sv a ia ow dq sa ea hd gs fs fi ar) (hF : Fi hs) (md : Md fi ar) {k : Int} (h1 : InR k) : CQ (t_Ev (t_pg G) t_hd Y_X1_pieceColumn 0 ([some (.ref x), some (.int (iI k))], [], hs)) hs (pcR (ar 0) k 2) := by
  rw [b_X1_pieceColumn_0, X.kx, Option.bind_some]
  refine q_pcQ X hF md h1 fun b q pb g1 g2 => ?_
  rw [va_rf_some, gfR_at (k := 0) (q := q) g1 rfl, Option.bind_some, va_rf_some, g2.i2, Option.bind_some]
  rfl
theorem q_pieceRow (X : XC G D N hs.1 x sv a ia ow dq sa ea hd gs fs fi ar) (hF : Fi hs) (md : Md fi ar) {k : Int} (h1 : InR k) : CQ (t_Ev (t_pg G) t_hd Y_X1_pieceRow 0 ([some (.ref x), some (.int (iI k))], [], hs)) hs (pcR (ar 0) k 3) := by
  rw [b_X1_pieceRow_0, X.kx, Option.bind_some]
  refine q_pcQ X hF md h1 fun b q pb g1 g2 => ?_
  rw [va_rf_some, gfR_at (k := 0) (q := q) g1 rfl, Option.bind_some, va_rf_some, g2.i3, Option.bind_some]
  rfl
theorem q_pieceOwner (X : XC G D N hs.1 x sv a ia ow dq sa ea hd gs fs fi ar) (hF : Fi hs) (md : Md fi ar) {k : Int} (h1 : InR k) : CQ (t_Ev (t_pg G) t_hd Y_X1_pieceOwner 0 ([some (.ref x), some (.int (iI k))], [], hs)) hs (pcR (ar 0) k 4) := by
  rw [b_X1_pieceOwner_0, X.kx, Option.bind_some]
  refine q_pcQ X hF md h1 fun b q pb g1 g2 => ?_
  rw [va_rf_some, gfI_at (k := 1) (x := iI (ar 0 (pcI k.toNat 4))) g1 rfl, Option.bind_some]
  rfl
theorem q_piecePoints (X : XC G D N hs.1 x sv a ia ow dq sa ea hd gs fs fi ar) (hF : Fi hs) (md : Md fi ar) {k : Int} (h1 : InR k) : CQ (t_Ev (t_pg G) t_hd Y_X1_piecePoints 0 ([some (.ref x), some (.int (iI k))], [], hs)) hs (pcR (ar 0) k 5) := by
  rw [b_X1_piecePoints_0, X.kx, Option.bind_some]
  refine q_pcQ X hF md h1 fun b q pb g1 g2 => ?_
  rw [va_rf_some, gfI_at (k := 2) (x := iI (ar 0 (pcI k.toNat 5))) g1 rfl, Option.bind_some]
  rfl
end QS
