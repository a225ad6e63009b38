/-! ===== the model's queries: players, placements ===== -/
section MQT
variable {G : tG} {m : Nat} {fi : Nat → Int} {ar : Nat → Nat → Int} {g : tAH} {z : Nat × Nat}
theorem MQr.tail {E : Option tRS} {r : Nat ⊕ Int} {kc : Nat → Int} (h : MQr m g z fi ar kc E r) : MQr m g z fi ar kc (bndI E (fun x hs => some (.inl (some (.int x)), hs)) tX) r := by
  obtain ⟨fi', ar', v, e, s, t⟩ := h
  exact ⟨fi', ar', v, by rw [e, bI_rI]; rfl, s, t⟩
theorem m_pieceShape (md : Md fi ar) {k : Int} (h : InR k) : MQr m g z fi ar kcB (t_Ev (t_pg G) t_hd Y_X5_pieceShape 0 ([some (.ref m), some (.int (iI k))], [], (hM m fi ar g, z))) (pcR (ar 0) k 0) := by
  rw [b_X5_pieceShape_0, mK, Option.bind_some]
  exact (m_ofPiece (j := 0) md (by decide) h).tail
theorem m_pieceRotation (md : Md fi ar) {k : Int} (h : InR k) : MQr m g z fi ar kcB (t_Ev (t_pg G) t_hd Y_X5_pieceRotation 0 ([some (.ref m), some (.int (iI k))], [], (hM m fi ar g, z))) (pcR (ar 0) k 1) := by
  rw [b_X5_pieceRotation_0, mK, Option.bind_some]
  exact (m_ofPiece (j := 1) md (by decide) h).tail
theorem m_pieceColumn (md : Md fi ar) {k : Int} (h : InR k) : MQr m g z fi ar kcB (t_Ev (t_pg G) t_hd Y_X5_pieceColumn 0 ([some (.ref m), some (.int (iI k))], [], (hM m fi ar g, z))) (pcR (ar 0) k 2) := by
  rw [b_X5_pieceColumn_0, mK, Option.bind_some]
  exact (m_ofPiece (j := 2) md (by decide) h).tail
theorem m_pieceRow (md : Md fi ar) {k : Int} (h : InR k) : MQr m g z fi ar kcB (t_Ev (t_pg G) t_hd Y_X5_pieceRow 0 ([some (.ref m), some (.int (iI k))], [], (hM m fi ar g, z))) (pcR (ar 0) k 3) := by
  rw [b_X5_pieceRow_0, mK, Option.bind_some]
  exact (m_ofPiece (j := 3) md (by decide) h).tail
theorem m_pieceOwner (md : Md fi ar) {k : Int} (h : InR k) : MQr m g z fi ar kcB (t_Ev (t_pg G) t_hd Y_X5_pieceOwner 0 ([some (.ref m), some (.int (iI k))], [], (hM m fi ar g, z))) (pcR (ar 0) k 4) := by
  rw [b_X5_pieceOwner_0, mK, Option.bind_some]
  exact (m_ofPiece (j := 4) md (by decide) h).tail
theorem m_piecePoints (md : Md fi ar) {k : Int} (h : InR k) : MQr m g z fi ar kcB (t_Ev (t_pg G) t_hd Y_X5_piecePoints 0 ([some (.ref m), some (.int (iI k))], [], (hM m fi ar g, z))) (pcR (ar 0) k 5) := by
  rw [b_X5_piecePoints_0, mK, Option.bind_some]
  exact (m_ofPiece (j := 5) md (by decide) h).tail
theorem m_playerToMove (md : Md fi ar) {kc : Nat → Int} : MQr m g z fi ar kc (t_Ev (t_pg G) t_hd Y_X5_playerToMove 0 ([some (.ref m)], [], (hM m fi ar g, z))) (.inr (if ovr (ar 0) = true then -1 else ar 0 2)) := MQr.v7 (by
  rw [b_X5_playerToMove_0, mK, Option.bind_some, e_over md.w.rb, bI_rB]
  simp only [bB_0]
  cases ovr (ar 0) with
  | true => rw [if_neg (by decide), mK, Option.bind_some, e_told, bI_rI]; rfl
  | false =>
    rw [if_pos rfl]
    simp (disch := omega) only [mK, mgI6, mgI7, mgI13, mgI14, mgI15, mgI16, mgI17, mgI18, mgI19, mgI20, mgI21, mgI22, mgI23, mgI24, mgI25, mgI26, mgI27, mgR0, mgR1, mgR2, mgR3, mgR4, mgR5, mgR8, mgR9, mgR10, mgR11, mgR12, Option.bind_some, va_rf_some, va_rf_none, bI_rI, bI_rB, bV_rV, bB_0, bB_1, iI_add, iI_sub, iI_mul, iI_neg, rI_of, rV_of, Int.reduceToNat, Int.neg_neg, mld0, e_told]
    (try rfl))
theorem m_isOver (md : Md fi ar) {kc : Nat → Int} : MQr m g z fi ar kc (t_Ev (t_pg G) t_hd Y_X5_isOver 0 ([some (.ref m)], [], (hM m fi ar g, z))) (.inr (bB (ovr (ar 0)))) := MQr.v7 (by
  rw [b_X5_isOver_0, mpI7, Option.bind_some, mK, Option.bind_some, e_over md.w.rb, bI_rB, if_pos bB_ok]
  rfl)
theorem m_leader (md : Md fi ar) {kc : Nat → Int} : MQr m g z fi ar kc (t_Ev (t_pg G) t_hd Y_X5_leader 0 ([some (.ref m), none], [], (hM m fi ar g, z))) (.inr (ldR' (ar 0))) := MQr.v7 (by
  have r0 : 0 ≤ ofS (ar 0) 0 0 ∧ ofS (ar 0) 0 0 ≤ 1000000 := md.w.rb _
  have r1 : 0 ≤ ofS (ar 0) 1 0 ∧ ofS (ar 0) 1 0 ≤ 1000000 := md.w.rb _
  rw [b_X5_leader_0, mpI7, Option.bind_some, mK, Option.bind_some, e_of (by decide) (by decide), bI_rI, mK, Option.bind_some, e_of (by decide) (by decide), bI_rI, iI_sub]
  simp (disch := omega) only [iI_inj, iI_lt]
  unfold ldR'
  by_cases c : ofS (ar 0) 0 0 - ofS (ar 0) 1 0 = 0
  · rw [if_pos c, if_pos c]; rfl
  · rw [if_neg c, if_neg c]
    by_cases c2 : 0 < ofS (ar 0) 0 0 - ofS (ar 0) 1 0
    · rw [if_pos c2, if_pos c2]; rfl
    · rw [if_neg c2, if_neg c2]; rfl)
theorem m_score {p : Int} (h : InR p) : MQr m g z fi ar kcB (t_Ev (t_pg G) t_hd Y_X5_score 0 ([some (.ref m), some (.int (iI p))], [], (hM m fi ar g, z))) (pyR p (.inr (ofS (ar 0) p 0))) := by
  rw [b_X5_score_0, e_noPlayer h, bI_rB, mK, Option.bind_some]
  unfold pyR
  cases c : isB p 0 1 with
  | false =>
    refine MQr.t7 (w := 0) (c := 1) ?_ rfl
    rw [show bB (!false) = 1 from rfl, ef1, bI_rI, if_neg (by decide)]; rfl
  | true =>
    have b := isB_iff.mp c
    refine MQr.v7 ?_
    rw [show bB (!true) = 0 from rfl, ef0, bI_rI, if_pos rfl, mK, Option.bind_some, e_of (by unfold plI; omega) (by unfold plI; omega), bI_rI]
    rfl
theorem m_strapsLeft {p : Int} (h : InR p) : MQr m g z fi ar kcB (t_Ev (t_pg G) t_hd Y_X5_strapsLeft 0 ([some (.ref m), some (.int (iI p))], [], (hM m fi ar g, z))) (pyR p (.inr (ofS (ar 0) p 1))) := by
  rw [b_X5_strapsLeft_0, e_noPlayer h, bI_rB, mK, Option.bind_some]
  unfold pyR
  cases c : isB p 0 1 with
  | false =>
    refine MQr.t7 (w := 0) (c := 1) ?_ rfl
    rw [show bB (!false) = 1 from rfl, ef1, bI_rI, if_neg (by decide)]; rfl
  | true =>
    have b := isB_iff.mp c
    refine MQr.v7 ?_
    rw [show bB (!true) = 0 from rfl, ef0, bI_rI, if_pos rfl, mK, Option.bind_some, e_of (by unfold plI; omega) (by unfold plI; omega), bI_rI]
    rfl
theorem m_supply {p sh : Int} (h : InR p) (h2 : InR sh) : MQr m g z fi ar kcB (t_Ev (t_pg G) t_hd Y_X5_supply 0 ([some (.ref m), some (.int (iI p)), some (.int (iI sh))], [], (hM m fi ar g, z))) (pyR p (if isB sh 0 4 = true then .inr (ofS (ar 0) p (2 + sh)) else .inl 15)) := by
  rw [b_X5_supply_0, e_noPlayer h, bI_rB, e_noShape h2, bI_rB, mK, Option.bind_some]
  unfold pyR
  cases c : isB p 0 1 with
  | false =>
    refine MQr.t7 (w := 0) (c := 1) ?_ rfl
    rw [show bB (!false) = 1 from rfl, ef1, bI_rI, if_neg (by decide)]; rfl
  | true =>
    have b := isB_iff.mp c
    rw [if_pos rfl, show bB (!true) = 0 from rfl]
    cases c2 : isB sh 0 4 with
    | false =>
      refine MQr.t7 (w := 0) (c := 2) ?_ rfl
      rw [show bB (!false) = 1 from rfl, ef01, bI_rI, if_neg (by decide)]; rfl
    | true =>
      have b2 := isB_iff.mp c2
      refine MQr.v7 ?_
      rw [show bB (!true) = 0 from rfl, ef0, bI_rI, if_pos rfl, mK, Option.bind_some, iI_add, e_of (by unfold plI; omega) (by unfold plI; omega), bI_rI]
      rfl
theorem m_nameByte (md : Md fi ar) {p k : Int} (h : InR p) (h2 : InR k) : MQr m g z fi ar kcB (t_Ev (t_pg G) t_hd Y_X5_nameByte 0 ([some (.ref m), some (.int (iI p)), some (.int (iI k))], [], (hM m fi ar g, z))) (pyR p (.inr (if isB k 0 (ofS (ar 0) p 7 - 1) = true then ofS (ar 0) p (8 + k) else -1))) := by
  rw [b_X5_nameByte_0, e_noPlayer h, bI_rB, mK, Option.bind_some]
  unfold pyR
  cases c : isB p 0 1 with
  | false =>
    refine MQr.t7 (w := 0) (c := 1) ?_ rfl
    rw [show bB (!false) = 1 from rfl, ef1, bI_rI, if_neg (by decide)]; rfl
  | true =>
    have b := isB_iff.mp c
    have nm := md.w.py.nm p (by omega)
    refine MQr.v7 ?_
    rw [show bB (!true) = 0 from rfl, ef0, bI_rI, if_pos rfl, mK, Option.bind_some, e_of (by unfold plI; omega) (by unfold plI; omega), bI_rI, iI_sub, e_isIn h2.1 h2.2 (by decide) (by decide) (by omega) (by omega), bI_rB]
    simp only [bB_0]
    cases c2 : isB k 0 (ofS (ar 0) p 7 - 1) with
    | false => rfl
    | true =>
      have b2 := isB_iff.mp c2
      rw [if_neg (by decide), mK, Option.bind_some, iI_add, e_of (by unfold plI; omega) (by unfold plI; omega), bI_rI, if_pos rfl]
      rfl
theorem m_mobility (md : Md fi ar) {p : Int} (h : InR p) : MQr m g z fi ar kcB (t_Ev (t_pg G) t_hd Y_X5_mobility 0 ([some (.ref m), some (.int (iI p))], [], (hM m fi ar g, z))) (pyR p (.inr (movs (ar 0) p))) := by
  rw [b_X5_mobility_0, e_noPlayer h, bI_rB, mK, Option.bind_some]
  unfold pyR
  cases c : isB p 0 1 with
  | false =>
    refine MQr.t7 (w := 0) (c := 1) ?_ rfl
    rw [show bB (!false) = 1 from rfl, ef1, bI_rI, if_neg (by decide)]; rfl
  | true =>
    have b := isB_iff.mp c
    obtain ⟨f', a', e, s⟩ := e_moves (G := G) (m := m) (fi := fU fi 7 0) (ar := ar) (g := g) (z := z) md.w.bd.dm md.w.rb b.1 b.2
    refine MQr.v (fi' := f') (ar' := a') ?_ (q7_Sc.trans s.q17) ((s.1 7 (by decide)).trans fU_s)
    rw [show bB (!true) = 0 from rfl, ef0, bI_rI, if_pos rfl, mK, Option.bind_some, e, bI_rI]
    rfl
theorem m_fittingPlacements (md : Md fi ar) {sh : Int} (h : InR sh) : MQr m g z fi ar kcA (t_Ev (t_pg G) t_hd Y_X5_fittingPlacements 0 ([some (.ref m), some (.int (iI sh))], [], (hM m fi ar g, z))) (if isB sh 0 4 = true then .inr (fitc (ar 0) sh) else .inl 15) := by
  rw [b_X5_fittingPlacements_0, e_noShape h, bI_rB, mK, Option.bind_some]
  cases c : isB sh 0 4 with
  | false =>
    refine MQr.t7 (w := 0) (c := 1) ?_ rfl
    rw [show bB (!false) = 1 from rfl, ef1, bI_rI, if_neg (by decide)]; rfl
  | true =>
    have b := isB_iff.mp c
    obtain ⟨f', a', e, s⟩ := e_fitting (G := G) (m := m) (fi := fU fi 7 0) (ar := ar) (g := g) (z := z) md.w.bd.dm md.w.rb b.1 b.2
    refine MQr.v (fi' := f') (ar' := a') ?_ (q7_Sc.trans s.q17) ((s.1 7 (by decide)).trans fU_s)
    rw [show bB (!true) = 0 from rfl, ef0, bI_rI, if_pos rfl, mK, Option.bind_some, e, bI_rI]
    rfl
theorem e_isBad (md : Md fi ar) {sh r u w : Int} (h1 : InR sh) (h2 : InR r) (h3 : InR u) (h4 : InR w) : t_Ev (t_pg G) t_hd Y_X5_isBad 0 ([some (.ref m), some (.int (iI sh)), some (.int (iI r)), some (.int (iI u)), some (.int (iI w))], [], (hM m fi ar g, z)) = if (isB sh 0 4 && isB r 0 3) = true then (if inB (ar 0) u w = true then rI 0 (hM m (fU fi 7 0) ar g, z) else rI 1 (hM m (fU fi 7 2) ar g, z)) else rI 1 (hM m (fU fi 7 1) ar g, z) := by
  have t20 : ∀ c : Int, t_Ev (t_pg G) t_hd Y_X5_isBad 20 ([some (.ref m), some (.int (iI sh)), some (.int (iI r)), some (.int (iI u)), some (.int (iI w))], [.int (iI c), (.ref m)], (hM m fi ar g, z)) = if inB (ar 0) u w = true then bndI (t_Ev (t_pg G) t_hd Y_X5_fails 0 ([some (.ref m), some (.int (iI c)), some (.int (iI 0)), some (.int (iI 0))], [], (hM m fi ar g, z))) (fun x hs => if t_okR 1 x = true then some (.inl (some (.int x)), hs) else none) tX else bndI (t_Ev (t_pg G) t_hd Y_X5_fails 0 ([some (.ref m), some (.int (iI c)), some (.int (iI 1)), some (.int (iI 0))], [], (hM m fi ar g, z))) (fun x hs => if t_okR 1 x = true then some (.inl (some (.int x)), hs) else none) tX := fun c => by
    rw [b_X5_isBad_20, mK, Option.bind_some, e_isInside md.w.bd.dm h3.1 h3.2 h4.1 h4.2, bI_rB]
    simp only [bB_0]
    cases inB (ar 0) u w with
    | false => rw [if_pos rfl, mK, Option.bind_some]; rfl
    | true => rw [if_neg (by decide), mK, Option.bind_some]; rfl
  rw [b_X5_isBad_0, e_noShape h1, bI_rB]
  simp only [bB_0]
  cases isB sh 0 4 with
  | false =>
    rw [show (!false : Bool) = true from rfl, if_neg (by decide), b_X5_isBad_15, t20, ef1, ef1]
    cases inB (ar 0) u w <;> rfl
  | true =>
    rw [show (!true : Bool) = false from rfl, if_pos rfl, e_noTurn h2, bI_rB]
    simp only [bB_0]
    cases isB r 0 3 with
    | false =>
      rw [show (!false : Bool) = true from rfl, if_neg (by decide), b_X5_isBad_15, t20, ef1, ef1]
      cases inB (ar 0) u w <;> rfl
    | true =>
      rw [show (!true : Bool) = false from rfl, if_pos rfl, t20, ef0, ef01]
      cases inB (ar 0) u w <;> rfl
theorem m_plQ (md : Md fi ar) {sh r u w : Int} (h1 : InR sh) (h2 : InR r) (h3 : InR u) (h4 : InR w) {K : tHS → Option tRS} {v : Nat ⊕ Int}
    (hv : isB sh 0 4 = true → isB r 0 3 = true → inB (ar 0) u w = true → MQr m g z fi ar kcA (K (hM m (fU fi 7 0) ar g, z)) v) :
    MQr m g z fi ar kcA (bndI (t_Ev (t_pg G) t_hd Y_X5_isBad 0 ([some (.ref m), some (.int (iI sh)), some (.int (iI r)), some (.int (iI u)), some (.int (iI w))], [], (hM m fi ar g, z))) (fun x_3 hs_2 => if x_3 = iI 0 then K hs_2 else some (.inl (some (.int (iI 0))), hs_2)) tX) (plR (ar 0) sh r u w v) := by
  rw [e_isBad md h1 h2 h3 h4]
  unfold plR
  cases c1 : (isB sh 0 4 && isB r 0 3) with
  | false =>
    rw [if_neg (by decide), if_neg (by decide), bI_rI, if_neg (by decide)]
    exact MQr.t7 (w := 0) (c := 1) rfl rfl
  | true =>
    rw [if_pos rfl, if_pos rfl]
    rw [Bool.and_eq_true] at c1
    cases c3 : inB (ar 0) u w with
    | false =>
      rw [if_neg (by decide), if_neg (by decide), bI_rI, if_neg (by decide)]
      exact MQr.t7 (w := 0) (c := 2) rfl rfl
    | true =>
      rw [if_pos rfl, if_pos rfl, bI_rI, if_pos rfl]
      exact hv c1.1 c1.2 c3
theorem m_fits (md : Md fi ar) {sh r u w : Int} (h1 : InR sh) (h2 : InR r) (h3 : InR u) (h4 : InR w) : MQr m g z fi ar kcA (t_Ev (t_pg G) t_hd Y_X5_fits 0 ([some (.ref m), some (.int (iI sh)), some (.int (iI r)), some (.int (iI u)), some (.int (iI w))], [], (hM m fi ar g, z))) (plR (ar 0) sh r u w (.inr (bB (decide (mf (ar 0) sh r u w = 0))))) := by
  rw [b_X5_fits_0, mK, Option.bind_some]
  refine m_plQ md h1 h2 h3 h4 fun c1 c2 c3 => ?_
  have b1 := isB_iff.mp c1
  have b2 := isB_iff.mp c2
  have b3 := inB_7 md.w.bd.dm c3
  have hm := mf_b (s := ar 0) (sh := sh) (r := r) (x := u) (y := w)
  obtain ⟨f', a', e, s, -⟩ := e_misfit (G := G) (m := m) (fi := fU fi 7 0) (ar := ar) (g := g) (z := z) md.w.bd.dm md.w.rb b1.1 b1.2 b2.1 b2.2 b3.1 b3.2
  refine MQr.v (fi' := f') (ar' := a') ?_ (q7_Sc.trans s.q17) ((s.1 7 (by decide)).trans fU_s)
  rw [mK, Option.bind_some, e, bI_rI]
  simp (disch := omega) only [iI_inj]
  exact rB_dec
theorem m_misfitReason (md : Md fi ar) {sh r u w : Int} (h1 : InR sh) (h2 : InR r) (h3 : InR u) (h4 : InR w) : MQr m g z fi ar kcA (t_Ev (t_pg G) t_hd Y_X5_misfitReason 0 ([some (.ref m), some (.int (iI sh)), some (.int (iI r)), some (.int (iI u)), some (.int (iI w))], [], (hM m fi ar g, z))) (plR (ar 0) sh r u w (.inr (mf (ar 0) sh r u w))) := by
  rw [b_X5_misfitReason_0, mK, Option.bind_some]
  refine m_plQ md h1 h2 h3 h4 fun c1 c2 c3 => ?_
  have b1 := isB_iff.mp c1
  have b2 := isB_iff.mp c2
  have b3 := inB_7 md.w.bd.dm c3
  obtain ⟨f', a', e, s, -⟩ := e_misfit (G := G) (m := m) (fi := fU fi 7 0) (ar := ar) (g := g) (z := z) md.w.bd.dm md.w.rb b1.1 b1.2 b2.1 b2.2 b3.1 b3.2
  refine MQr.v (fi' := f') (ar' := a') ?_ (q7_Sc.trans s.q17) ((s.1 7 (by decide)).trans fU_s)
  rw [mK, Option.bind_some, e, bI_rI]
  rfl
theorem m_pointsFor (md : Md fi ar) {sh r u w : Int} (h1 : InR sh) (h2 : InR r) (h3 : InR u) (h4 : InR w) : MQr m g z fi ar kcA (t_Ev (t_pg G) t_hd Y_X5_pointsFor 0 ([some (.ref m), some (.int (iI sh)), some (.int (iI r)), some (.int (iI u)), some (.int (iI w))], [], (hM m fi ar g, z))) (plR (ar 0) sh r u w (.inr (if mf (ar 0) sh r u w = 0 then pts (ar 0) sh r w else -1))) := by
  rw [b_X5_pointsFor_0, mK, Option.bind_some]
  refine m_plQ md h1 h2 h3 h4 fun c1 c2 c3 => ?_
  have b1 := isB_iff.mp c1
  have b2 := isB_iff.mp c2
  have b3 := inB_7 md.w.bd.dm c3
  have hm := mf_b (s := ar 0) (sh := sh) (r := r) (x := u) (y := w)
  obtain ⟨f', a', e, s, -⟩ := e_misfit (G := G) (m := m) (fi := fU fi 7 0) (ar := ar) (g := g) (z := z) md.w.bd.dm md.w.rb b1.1 b1.2 b2.1 b2.2 b3.1 b3.2
  have a0 : a' 0 = ar 0 := s.2 0 (by decide)
  obtain ⟨f2, a2, e2, s2, -⟩ := e_points (G := G) (m := m) (fi := f') (ar := a') (g := g) (z := z) (sh := sh) (r := r) (x := u) (y := w) (by rw [a0]; exact md.w.bd.dm) (by rw [a0]; exact md.w.rb) b1.1 b1.2 b2.1 b2.2 b3.1 b3.2
  rw [mK, Option.bind_some, e, bI_rI]
  simp (disch := omega) only [iI_inj]
  by_cases c : mf (ar 0) sh r u w = 0
  · refine MQr.v (fi' := f2) (ar' := a2) ?_ (q7_Sc.trans (s.trans s2).q17) (((s.trans s2).1 7 (by decide)).trans fU_s)
    rw [if_pos c, if_pos c, mK, Option.bind_some, e2, bI_rI, a0]
    rfl
  · refine MQr.v (fi' := f') (ar' := a') ?_ (q7_Sc.trans s.q17) ((s.1 7 (by decide)).trans fU_s)
    rw [if_neg c, if_neg c]
    rfl
end MQT
