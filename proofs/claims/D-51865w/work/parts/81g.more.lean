/-! ===== the component: straps' effect, reachable cells, counts ===== -/
def EJ (hs : tHS) (a : Nat) (acc : Nat → Int) (h : tHS) : Prop :=
  Ex 4 135 hs h ∧ (∃ f, h.1 hs.2.1 = some (true, 0, .inr (128, .inl f)) ∧ ∀ j, j < 128 → f j = iI (acc j)) ∧ h.1 (hs.2.1 + 1) = some (true, 104, .inl [.ref a]) ∧ h.1 (hs.2.1 + 2) = some (true, 105, .inl [.ref a, .ref hs.2.1])
/-- the cells that are set -/
def rcF (sh r x y : Int) (st : Nat → Bool) : Nat → Bool := fd (fun k st => fun j => st j || decide (j = (cY sh r y k * 8 + cX sh r x k).toNat)) (shN sh) st
def rcS (s : tRow) : Nat → Bool := vF s (fun _ => true) rcF (fun _ => false)
def RJ (hs : tHS) (ax : Nat) (st : Nat → Bool) (h : tHS) : Prop :=
  Ex 3 70 hs h ∧ (∃ f, h.1 hs.2.1 = some (true, 1, .inr (64, .inl f)) ∧ ∀ j, j < 64 → f j = iI (bB (st j))) ∧ h.1 (hs.2.1 + 1) = some (true, 107, .inl [.ref ax, .ref hs.2.1])
section MOR
variable {G : tG} {D M : Nat → Prop} {hs : tHS} {a fl np : Nat} {s : tRow}
theorem c_strapEffect (hF : Fi hs) (H : GR G D M hs.1 a s 2) (C : CH G D hs.1) (hD : Dm s) (hB : RB s) (hT : s 2 ≤ 1) : ∃ hs', t_Ev (t_pg G) t_hd Y_X3_strapEffect 0 ([some (.ref a), none, none, none, none, none], [], hs) = rI (seC s (ctE s)) hs' ∧ Ex 4 135 hs hs' := by
  have ht := (hB 2).1
  obtain ⟨sv, e1, hS⟩ := H.sv
  have x1 : Ex 1 128 hs (t_al hs (t_arr0 0 128) 128) := Ex.al hF
  have x2 : Ex 2 129 hs (t_al (t_al hs (t_arr0 0 128) 128) (true, 104, .inl [.ref a]) 1) := x1.trans (Ex.al x1.fi)
  have x3 : Ex 3 131 hs (t_al (t_al (t_al hs (t_arr0 0 128) 128) (true, 104, .inl [.ref a]) 1) (true, 105, .inl [.ref a, .ref hs.2.1]) 2) := x2.trans (Ex.al x2.fi)
  have d0 : (t_al (t_al (t_al hs (t_arr0 0 128) 128) (true, 104, .inl [.ref a]) 1) (true, 105, .inl [.ref a, .ref hs.2.1]) 2).1 hs.2.1 = some (t_arr0 0 128) := (t_up_n (by show hs.2.1 ≠ hs.2.1 + 2; omega)).trans ((t_up_n (by show hs.2.1 ≠ hs.2.1 + 1; omega)).trans t_up_s)
  have d1 : (t_al (t_al (t_al hs (t_arr0 0 128) 128) (true, 104, .inl [.ref a]) 1) (true, 105, .inl [.ref a, .ref hs.2.1]) 2).1 (hs.2.1 + 1) = some (true, 104, .inl [.ref a]) := (t_up_n (by show hs.2.1 + 1 ≠ hs.2.1 + 2; omega)).trans t_up_s
  have d2 : (t_al (t_al (t_al hs (t_arr0 0 128) 128) (true, 104, .inl [.ref a]) 1) (true, 105, .inl [.ref a, .ref hs.2.1]) 2).1 (hs.2.1 + 2) = some (true, 105, .inl [.ref a, .ref hs.2.1]) := t_up_s
  have hz : (t_al (t_al (t_al hs (t_arr0 0 128) 128) (true, 104, .inl [.ref a]) 1) (true, 105, .inl [.ref a, .ref hs.2.1]) 2).2 = (hs.2.1 + 3, hs.2.2 + 131) := rfl
  rw [b_X3_strapEffect_0, show ((t_al hs (t_arr0 0 128) 128).2).1 = hs.2.1 + 1 from rfl, show ((t_al (t_al hs (t_arr0 0 128) 128) (true, 104, .inl [.ref a]) 1).2).1 = hs.2.1 + 2 from rfl]
  generalize t_al (t_al (t_al hs (t_arr0 0 128) 128) (true, 104, .inl [.ref a]) 1) (true, 105, .inl [.ref a, .ref hs.2.1]) 2 = hs4 at *
  have k4 : ∀ T, Kp T hs.1 hs4.1 := fun T => Kp.ex hF x3
  have H4 := H.kp (k4 _)
  have g4 : gfR hs4.1 (.ref a) 2 0 = some (some sv) := by
    obtain ⟨sv0, ca, sa, pa, qa, fc, fs, fp, fq, pl, su, ⟨m1, f1⟩, -⟩ := id H
    have := gfR_at (k := 0) (q := sv0) f1 rfl
    rw [e1] at this
    cases this
    exact gfR_at (k4 (fun _ => true) _ _ f1 rfl) rfl
  have V : Vw G D M a s (hs.2.1 + 2) hs4.2.1 sv ceF (EJ hs a) := by
    rw [hz]
    refine ⟨fun b h hj => ⟨H.kp (Kp.ex hF hj.1), C.kp (Kp.ex hF hj.1), (hS.kp (Kp.ex hF hj.1)).dm fun _ _ _ _ => trivial⟩, fun b h e e' hj hq => ?_, fun b h sh r x y hj hP h1 h2 h3 h4 h5 h6 h7 => ?_⟩
    · obtain ⟨j1, ⟨f, j2, j3⟩, j4, j5⟩ := hj
      exact ⟨j1.up hq (by show _ ≤ hs.2.1 + 3; omega), ⟨f, (t_up_n (by show hs.2.1 ≠ hs.2.1 + 3; omega)).trans j2, j3⟩, (t_up_n (by show hs.2.1 + 1 ≠ hs.2.1 + 3; omega)).trans j4, (t_up_n (by show hs.2.1 + 2 ≠ hs.2.1 + 3; omega)).trans j5⟩
    · obtain ⟨j1, ⟨f, j2, j3⟩, j4, j5⟩ := hj
      have Hh := H.kp (Kp.ex hF j1)
      obtain ⟨f', e, hf'⟩ := c_countEdges Hh (C.kp (Kp.ex hF j1)) hP j1.fi h1 h2 h3 h4 (fun k hk => (mf_in hD h7 k hk).2) j2 j3
      refine ⟨_, _, _, _, tfn_of (q := (105, 170, 0, 2, 2)) j5 rfl rfl ⟨rfl, Or.inr (by show (t_kN h.1 (.ref a) 2).isSome = true; rw [Hh.k]; rfl)⟩, ?_, ⟨j1.up j2 (Nat.le_refl _), ⟨f', t_up_s, hf'⟩, (t_up_n (by omega)).trans j4, (t_up_n (by omega)).trans j5⟩, ⟨trivial, (t_up_n (by show hs.2.1 + 3 ≠ hs.2.1; omega)).trans hP.2⟩⟩
      show t_Ev (t_pg G) t_hd Y_X3_lambda_strapEffect_5 0 ([some (.ref a), some (.ref hs.2.1), some (.ref (hs.2.1 + 3))], [], h) = _
      rw [b_X3_lambda_strapEffect_5_0]
      simp only [Hh.k, Option.bind_some]
      rw [bV_ex e]
      rfl
  have x5 : Ex 4 135 hs (t_al hs4 (true, 5, .inl [.ref (G.1 0), .int (iI 0), .int (iI 0), .int (iI 0)]) 4) := x3.trans (Ex.al x3.fi)
  have hz4 : hs4.2.1 = hs.2.1 + 3 := by rw [hz]
  obtain ⟨hs', sh', r', x', y', g1, ⟨j1, ⟨f, j2, j3⟩, -⟩, -⟩ := c_visitFitting (fl := hs.2.1 + 1) (vi := hs.2.1 + 2) (φ := fun sh => decide (0 < ofS s (1 - s 2) (2 + sh))) (st := fun _ => (0 : Int)) x3.fi g4 (hS.kp (k4 _)) V
    (fun b h sh hj h3 h4 => by
      have Hh := H.kp (Kp.ex hF hj.1)
      refine ⟨_, _, _, tfn_of hj.2.2.1 rfl rfl ⟨rfl, Or.inr (by show (t_kN h.1 (.ref a) 2).isSome = true; rw [Hh.k]; rfl)⟩, ?_⟩
      show t_Ev (t_pg G) t_hd Y_X3_lambda_strapEffect_4 0 ([some (.ref a), some (.ref (G.1 sh.toNat))], [], h) = _
      rw [b_X3_lambda_strapEffect_4_0]
      simp (disch := omega) only [Option.bind_some, va_rf_some, va_rf_none, bI_rI, bI_rB, bV_rV, bB_0, bB_1, iI_add, iI_sub, iI_mul, iI_neg, rI_of, rV_of, Int.reduceToNat, Int.neg_neg, Hh.k, Hh.i9, c_hasPiece Hh (C.kp (Kp.ex hF hj.1)) hB h3 h4 (show 0 ≤ 1 - s 2 by omega) (show 1 - s 2 < ((2 : Nat) : Int) by omega) (Nat.le_refl 2)]
      rw [if_pos bB_ok]
      rfl)
    ⟨x5, ⟨fun _ => 0, (t_up_n (by omega)).trans d0, fun j hj => rfl⟩, (t_up_n (by omega)).trans d1, (t_up_n (by omega)).trans d2⟩ hD hB
  refine ⟨hs', ?_, j1⟩
  simp only [H4.k, Option.bind_some]
  rw [bV_ex g1]
  have Hh := H.kp (Kp.ex hF j1)
  have hcb := ctE_b hD
  change ∀ j, j < 128 → f j = iI (ctE s j) at j3
  have hd := hD.1
  have hd2 := hD.2
  have hn := tn_of hd.1
  have hn2 := tn_of hd2.1
  have bnd : ∀ d y x b, (0 ≤ b ∧ b ≤ 20480) → 0 ≤ seI s (ctE s) d y x b ∧ seI s (ctE s) d y x b ≤ 20480 := fun d y x b hb => by
    have := hcb (d * 64 + (y * 8 + x)).toNat
    unfold seI
    split <;> omega
  have bx : ∀ d y (n : Nat) b, (0 ≤ b ∧ b ≤ 20480) → 0 ≤ fd (fun x b => seI s (ctE s) d y x b) n b ∧ fd (fun x b => seI s (ctE s) d y x b) n b ≤ 20480 := fun d y n b hb => fd_ge (P := fun b => 0 ≤ b ∧ b ≤ 20480) (fun k _ a ha => bnd _ _ _ _ ha) hb
  have by' : ∀ d (n : Nat) b, (0 ≤ b ∧ b ≤ 20480) → 0 ≤ fd (fun y b => fd (fun x b => seI s (ctE s) d y x b) (s 0).toNat b) n b ∧ fd (fun y b => fd (fun x b => seI s (ctE s) d y x b) (s 0).toNat b) n b ≤ 20480 := fun d n b hb => fd_ge (P := fun b => 0 ≤ b ∧ b ≤ 20480) (fun k _ a ha => bx _ _ _ _ ha) hb
  have bd : ∀ (n : Nat), 0 ≤ fd (fun d b => fd (fun y b => fd (fun x b => seI s (ctE s) d y x b) (s 0).toNat b) (s 1).toNat b) n 0 ∧ fd (fun d b => fd (fun y b => fd (fun x b => seI s (ctE s) d y x b) (s 0).toNat b) (s 1).toNat b) n 0 ≤ 20480 := fun n => fd_ge (P := fun b => 0 ≤ b ∧ b ≤ 20480) (fun k _ a ha => by' _ _ _ ha) ⟨by decide, by decide⟩
  obtain ⟨⟨v4, v5⟩, e⟩ := lp_e0 (N := 2) (σ := Option Value × Option Value) (F := fun d c => t_Ev (t_pg G) t_hd Y_X3_strapEffect 27 ([some (.ref a), some (.ref hs.2.1), some (.int (iI (fd (fun d b => fd (fun y b => fd (fun x b => seI s (ctE s) d y x b) (s 0).toNat b) (s 1).toNat b) d 0))), some (.int (iI (d : Int))), c.1, c.2], [], hs')) (fun d hd' c => by
    have b0 := bd d
    obtain ⟨v5, e⟩ := lp_e0 (N := (s 1).toNat) (σ := Option Value) (F := fun y c => t_Ev (t_pg G) t_hd Y_X3_strapEffect 35 ([some (.ref a), some (.ref hs.2.1), some (.int (iI (fd (fun y b => fd (fun x b => seI s (ctE s) d y x b) (s 0).toNat b) y (fd (fun d b => fd (fun y b => fd (fun x b => seI s (ctE s) d y x b) (s 0).toNat b) (s 1).toNat b) d 0)))), some (.int (iI (d : Int))), some (.int (iI (y : Int))), c], [], hs')) (fun y hy c => by
      have hy' : (y : Int) < s 1 := by omega
      have b1 := by' d y _ b0
      refine ⟨some (.int (iI (((s 0).toNat : Nat) : Int))), ?_⟩
      try dsimp only
      rw [b_X3_strapEffect_35]
      simp (disch := omega) only [Option.bind_some, va_rf_some, va_rf_none, bI_rI, bI_rB, bV_rV, bB_0, bB_1, iI_add, iI_sub, iI_mul, iI_neg, rI_of, rV_of, Int.reduceToNat, Int.neg_neg, iI_lt, iI_le, iI_inj, Int.toNat_natCast, Int.lt_irrefl, if_true, if_false, reduceIte, Hh.i2, hy']
      refine Eq.trans (lp_up (N := (s 0).toNat) (F := fun x => t_Ev (t_pg G) t_hd Y_X3_strapEffect 47 ([some (.ref a), some (.ref hs.2.1), some (.int (iI (fd (fun x b => seI s (ctE s) d y x b) x (fd (fun y b => fd (fun x b => seI s (ctE s) d y x b) (s 0).toNat b) y (fd (fun d b => fd (fun y b => fd (fun x b => seI s (ctE s) d y x b) (s 0).toNat b) (s 1).toNat b) d 0))))), some (.int (iI (d : Int))), some (.int (iI (y : Int))), some (.int (iI (x : Int)))], [], hs')) (fun x hx => ?_)) ?_
      · have hx' : (x : Int) < s 0 := by omega
        have b2 := bx d y x _ b1
        have hnx : fd (fun x b => seI s (ctE s) d y x b) (x + 1) (fd (fun y b => fd (fun x b => seI s (ctE s) d y x b) (s 0).toNat b) y (fd (fun d b => fd (fun y b => fd (fun x b => seI s (ctE s) d y x b) (s 0).toNat b) (s 1).toNat b) d 0)) = seI s (ctE s) d y x (fd (fun x b => seI s (ctE s) d y x b) x (fd (fun y b => fd (fun x b => seI s (ctE s) d y x b) (s 0).toNat b) y (fd (fun d b => fd (fun y b => fd (fun x b => seI s (ctE s) d y x b) (s 0).toNat b) (s 1).toNat b) d 0))) := rfl
        try dsimp only
        rw [hnx, b_X3_strapEffect_47]
        generalize fd (fun x b => seI s (ctE s) d y x b) x (fd (fun y b => fd (fun x b => seI s (ctE s) d y x b) (s 0).toNat b) y (fd (fun d b => fd (fun y b => fd (fun x b => seI s (ctE s) d y x b) (s 0).toNat b) (s 1).toNat b) d 0)) = B at *
        simp (disch := omega) only [Option.bind_some, va_rf_some, va_rf_none, bI_rI, bI_rB, bV_rV, bB_0, bB_1, iI_add, iI_sub, iI_mul, iI_neg, rI_of, rV_of, Int.reduceToNat, Int.neg_neg, iI_lt, iI_le, iI_inj, Int.toNat_natCast, Int.lt_irrefl, if_true, if_false, reduceIte, Hh.i1, hx', Hh.k, c_isEdge Hh hD]
        unfold seI
        cases he : isEd s x y d with
        | false => rfl
        | true =>
          have he' := he
          rw [isEd_bey (by omega) (by omega), Bool.and_eq_true, inB_iff, inB_iff] at he'
          simp (disch := omega) only [Option.bind_some, va_rf_some, va_rf_none, bI_rI, bI_rB, bV_rV, bB_0, bB_1, iI_add, iI_sub, iI_mul, iI_neg, rI_of, rV_of, Int.reduceToNat, Int.neg_neg, Hh.k, c_canFasten Hh hB hT, Bool.true_eq_false, if_false, true_and]
          cases mayF s x y d with
          | false => rfl
          | true =>
            have hE : 0 ≤ (d : Int) * 64 + ((y : Int) * 8 + x) ∧ (d : Int) * 64 + ((y : Int) * 8 + x) < 128 := by omega
            have hcc := hcb ((d : Int) * 64 + ((y : Int) * 8 + x)).toNat
            simp only [Option.bind_some, va_rf_some, va_rf_none, bI_rI, bI_rB, bV_rV, bB_0, bB_1, iI_add, iI_sub, iI_mul, iI_neg, rI_of, rV_of, Int.reduceToNat, Int.neg_neg, Hh.k, c_edge Hh, Bool.true_eq_false, if_false, if_true]
            rw [ldI_at j2 (by decide) hE.1 hE.2 (by decide), j3 _ (by omega)]
            simp (disch := omega) only [Option.bind_some, va_rf_some, va_rf_none, bI_rI, bI_rB, bV_rV, bB_0, bB_1, iI_add, iI_sub, iI_mul, iI_neg, rI_of, rV_of, Int.reduceToNat, Int.neg_neg, e_max]
            (try rfl)
      · try dsimp only
        rw [b_X3_strapEffect_47]
        simp (disch := omega) only [Option.bind_some, va_rf_some, va_rf_none, bI_rI, bI_rB, bV_rV, bB_0, bB_1, iI_add, iI_sub, iI_mul, iI_neg, rI_of, rV_of, Int.reduceToNat, Int.neg_neg, iI_lt, iI_le, iI_inj, Int.toNat_natCast, Int.lt_irrefl, if_true, if_false, reduceIte, Hh.i1, hn]
        (try rfl)) c.2
    refine ⟨(some (.int (iI (((s 1).toNat : Nat) : Int))), v5), ?_⟩
    try dsimp only
    rw [b_X3_strapEffect_27]
    simp (disch := omega) only [Option.bind_some, va_rf_some, va_rf_none, bI_rI, bI_rB, bV_rV, bB_0, bB_1, iI_add, iI_sub, iI_mul, iI_neg, rI_of, rV_of, Int.reduceToNat, Int.neg_neg, iI_lt, iI_le, iI_inj, Int.toNat_natCast, Int.lt_irrefl, if_true, if_false, reduceIte, show ((1:Int) < d) = False by simp; omega]
    refine Eq.trans e ?_
    try dsimp only
    rw [b_X3_strapEffect_35]
    simp (disch := omega) only [Option.bind_some, va_rf_some, va_rf_none, bI_rI, bI_rB, bV_rV, bB_0, bB_1, iI_add, iI_sub, iI_mul, iI_neg, rI_of, rV_of, Int.reduceToNat, Int.neg_neg, iI_lt, iI_le, iI_inj, Int.toNat_natCast, Int.lt_irrefl, if_true, if_false, reduceIte, Hh.i2, hn2]
    (try rfl)) (none, none)
  refine Eq.trans e ?_
  try dsimp only
  rw [b_X3_strapEffect_27]
  rfl
theorem c_reach {ax : Nat} {o : Option Value} (hF : Fi hs) (H : GR G D M hs.1 a s 2) (C : CH G D hs.1) (hD : Dm s) (hB : RB s) (hX : ∃ b fs, hs.1 ax = some (b, 0, .inl fs) ∧ fs[1]? = some (.ref a)) (hL : ∃ b, hs.1 (G.1 11) = some (b, 106, .inl [])) : ∃ hs' f, t_Ev (t_pg G) t_hd Y_X1_reachableCells 0 ([some (.ref ax), o], [], hs) = rR (some hs.2.1) hs' ∧ Ex 3 70 hs hs' ∧ hs'.1 hs.2.1 = some (true, 1, .inr (64, .inl f)) ∧ ∀ j, j < 64 → f j = iI (bB (rcS s j)) := by
  obtain ⟨sv, e1, hS⟩ := H.sv
  obtain ⟨bx, fx, hx1, hx2⟩ := hX
  obtain ⟨bl, hl1⟩ := hL
  have x1 : Ex 1 64 hs (t_al hs (t_arr0 1 64) 64) := Ex.al hF
  have x2 : Ex 2 66 hs (t_al (t_al hs (t_arr0 1 64) 64) (true, 107, .inl [.ref ax, .ref hs.2.1]) 2) := x1.trans (Ex.al x1.fi)
  have q1 : gfR (t_al hs (t_arr0 1 64) 64).1 (.ref ax) 0 1 = some (some a) := gfR_at (Kp.ex (T := fun _ => true) hF x1 _ _ hx1 rfl) hx2
  have d0 : (t_al (t_al hs (t_arr0 1 64) 64) (true, 107, .inl [.ref ax, .ref hs.2.1]) 2).1 hs.2.1 = some (t_arr0 1 64) := (t_up_n (by show hs.2.1 ≠ hs.2.1 + 1; omega)).trans t_up_s
  have d1 : (t_al (t_al hs (t_arr0 1 64) 64) (true, 107, .inl [.ref ax, .ref hs.2.1]) 2).1 (hs.2.1 + 1) = some (true, 107, .inl [.ref ax, .ref hs.2.1]) := t_up_s
  have hz : (t_al (t_al hs (t_arr0 1 64) 64) (true, 107, .inl [.ref ax, .ref hs.2.1]) 2).2 = (hs.2.1 + 2, hs.2.2 + 66) := rfl
  rw [b_X1_reachableCells_0, show ((t_al hs (t_arr0 1 64) 64).2).1 = hs.2.1 + 1 from rfl, q1]
  generalize t_al (t_al hs (t_arr0 1 64) 64) (true, 107, .inl [.ref ax, .ref hs.2.1]) 2 = hs4 at *
  have k4 : ∀ T, Kp T hs.1 hs4.1 := fun T => Kp.ex hF x2
  have H4 := H.kp (k4 _)
  have g4 : gfR hs4.1 (.ref a) 2 0 = some (some sv) := by
    obtain ⟨sv0, ca, sa, pa, qa, fc, fs, fp, fq, pl, su, ⟨m1, f1⟩, -⟩ := id H
    have := gfR_at (k := 0) (q := sv0) f1 rfl
    rw [e1] at this
    cases this
    exact gfR_at (k4 (fun _ => true) _ _ f1 rfl) rfl
  have V : Vw G D M a s (hs.2.1 + 1) hs4.2.1 sv rcF (RJ hs ax) := by
    rw [hz]
    refine ⟨fun b h hj => ⟨H.kp (Kp.ex hF hj.1), C.kp (Kp.ex hF hj.1), (hS.kp (Kp.ex hF hj.1)).dm fun _ _ _ _ => trivial⟩, fun b h e e' hj hq => ?_, fun b h sh r x y hj hP h1 h2 h3 h4 h5 h6 h7 => ?_⟩
    · obtain ⟨j1, ⟨f, j2, j3⟩, j4⟩ := hj
      exact ⟨j1.up hq (by show _ ≤ hs.2.1 + 2; omega), ⟨f, (t_up_n (by show hs.2.1 ≠ hs.2.1 + 2; omega)).trans j2, j3⟩, (t_up_n (by show hs.2.1 + 1 ≠ hs.2.1 + 2; omega)).trans j4⟩
    · obtain ⟨j1, ⟨f, j2, j3⟩, j4⟩ := hj
      have hN := shN_b (sh := sh)
      have hI := fun k hk => (mf_in hD h7 k hk).2
      have self : (t_up h.1 hs.2.1 (true, 1, .inr (64, .inl f))) = h.1 := by
        funext z
        unfold t_up
        by_cases c : z = hs.2.1
        · rw [if_pos c, c, j2]
        · rw [if_neg c]
      have kk : ∀ g : Nat → Int32, Kp tgG h.1 (t_up h.1 hs.2.1 (true, 1, .inr (64, .inl g))) := fun g => Kp.up j2 rfl
      have hxh : h.1 ax = some (bx, 0, .inl fx) := Kp.ex (T := fun _ => true) hF j1 _ _ hx1 rfl
      obtain ⟨f', i1, e⟩ := lp_ik (N := shN sh) (I := fun k (c : Nat → Int32) => ∀ j, j < 64 → c j = iI (bB (fd (fun k st => fun j => st j || decide (j = (cY sh r y k * 8 + cX sh r x k).toNat)) k b j))) (F := fun k c => t_Ev (t_pg G) t_hd Y_X1_lambda_reachableCells_2 2 ([some (.ref ax), some (.ref hs.2.1), some (.ref (hs.2.1 + 2)), some (.int (iI (k : Int)))], [], (t_up h.1 hs.2.1 (true, 1, .inr (64, .inl c)), h.2))) (fun k hk c hc => by
        have hk' : (k : Int) < (shN sh : Int) := by omega
        have pk := hI k hk
        have H1 := (H.kp (Kp.ex hF j1)).kp (kk c)
        have C1 := ((C.kp (Kp.ex hF j1)).kp (kk c)).tr
        have P1 := hP.kp (kk c)
        have hcnt : (t_up h.1 hs.2.1 (true, 1, .inr (64, .inl c))) hs.2.1 = some (true, 1, .inr (64, .inl c)) := t_up_s
        have hx3 : gfR (t_up h.1 hs.2.1 (true, 1, .inr (64, .inl c))) (.ref ax) 0 1 = some (some a) := gfR_at ((t_up_n (ne_tg hxh j2 (fun z => absurd (show (0:Nat) = 1 from congrArg Prod.fst z) (by decide)))).trans hxh) hx2
        refine ⟨upd c (cY sh r y k * 8 + cX sh r x k).toNat (iI 1), fun j hj => ?_, ?_⟩
        · rw [fd]
          by_cases cj : j = (cY sh r y k * 8 + cX sh r x k).toNat
          · rw [decide_eq_true cj, Bool.or_true, cj, upd_s]; rfl
          · rw [decide_eq_false cj, Bool.or_false, upd_n cj]; exact hc j hj
        · try dsimp only
          rw [b_X1_lambda_reachableCells_2_2]
          simp (maxSteps := 2000000) (disch := omega) only [Option.bind_some, va_rf_some, va_rf_none, bI_rI, bI_rB, bV_rV, bB_0, bB_1, iI_add, iI_sub, iI_mul, iI_neg, rI_of, rV_of, Int.reduceToNat, Int.neg_neg, iI_lt, iI_le, iI_inj, Int.toNat_natCast, Int.lt_irrefl, if_true, if_false, reduceIte, P1.r0, C1.k h1 h2, c_cells (hs := (t_up h.1 hs.2.1 (true, 1, .inr (64, .inl c)), h.2)) C1 h1 h2, hk', P1.k, c_columnOf (hs := (t_up h.1 hs.2.1 (true, 1, .inr (64, .inl c)), h.2)) C1 P1 h1 h2 (show (0:Int) ≤ k by omega) hk' h3 h4, c_rowOf (hs := (t_up h.1 hs.2.1 (true, 1, .inr (64, .inl c)), h.2)) C1 P1 h1 h2 (show (0:Int) ≤ k by omega) hk' h3 h4, hx3, H1.k, c_indexOf]
          rw [stI_at hcnt (by decide) (by omega) (by omega) (by decide)]
          simp only [Option.bind_some, t_up_up]
          (try rfl)) f j3
      have C1 := ((C.kp (Kp.ex hF j1)).kp (kk f')).tr
      have P1 := hP.kp (kk f')
      have Hh := H.kp (Kp.ex hF j1)
      refine ⟨_, _, _, (t_up h.1 hs.2.1 (true, 1, .inr (64, .inl f')), h.2), tfn_of (q := (107, 171, 1, 0, 2)) j4 rfl rfl ⟨rfl, Or.inr (by show (t_kN h.1 (.ref ax) 0).isSome = true; rw [kN_at hxh]; rfl)⟩, ?_, ⟨j1.up j2 (Nat.le_refl _), ⟨f', t_up_s, i1⟩, (t_up_n (by omega)).trans j4⟩, ⟨trivial, (t_up_n (by show hs.2.1 + 2 ≠ hs.2.1; omega)).trans hP.2⟩⟩
      show t_Ev (t_pg G) t_hd Y_X1_lambda_reachableCells_2 0 ([some (.ref ax), some (.ref hs.2.1), some (.ref (hs.2.1 + 2)), none], [], h) = _
      rw [b_X1_lambda_reachableCells_2_0]
      refine Eq.trans (Eq.trans (by rw [self]; rfl) e) ?_
      try dsimp only
      rw [b_X1_lambda_reachableCells_2_2]
      simp (disch := omega) only [Option.bind_some, va_rf_some, va_rf_none, bI_rI, bI_rB, bV_rV, bB_0, bB_1, iI_add, iI_sub, iI_mul, iI_neg, rI_of, rV_of, Int.reduceToNat, Int.neg_neg, iI_lt, iI_le, iI_inj, Int.toNat_natCast, Int.lt_irrefl, if_true, if_false, reduceIte, P1.r0, C1.k h1 h2, c_cells (hs := (t_up h.1 hs.2.1 (true, 1, .inr (64, .inl f')), h.2)) C1 h1 h2]
  have x5 : Ex 3 70 hs (t_al hs4 (true, 5, .inl [.ref (G.1 0), .int (iI 0), .int (iI 0), .int (iI 0)]) 4) := x2.trans (Ex.al x2.fi)
  have hz4 : hs4.2.1 = hs.2.1 + 2 := by rw [hz]
  obtain ⟨hs', sh', r', x', y', g1, ⟨j1, ⟨f, j2, j3⟩, -⟩, -⟩ := c_visitFitting (fl := G.1 11) (vi := hs.2.1 + 1) (φ := fun _ => true) (st := fun _ => false) x2.fi g4 (hS.kp (k4 _)) V
    (fun b h sh hj h3 h4 => by
      refine ⟨_, _, _, tfn_of (q := (106, 164, 0, 99, 0)) (Kp.ex (T := fun _ => true) hF hj.1 _ _ hl1 rfl) rfl rfl ⟨rfl, Or.inl rfl⟩, ?_⟩
      show t_Ev (t_pg G) t_hd Y_X1_lambda_reachableCells_1 0 ([some (.ref (G.1 sh.toNat))], [], h) = _
      rw [b_X1_lambda_reachableCells_1_0]
      rfl)
    ⟨x5, ⟨fun _ => 0, (t_up_n (by omega)).trans d0, fun j hj => rfl⟩, (t_up_n (by omega)).trans d1⟩ hD hB
  refine ⟨hs', f, ?_, j1, j2, j3⟩
  simp only [H4.k, Option.bind_some, va_rf_some]
  rw [bV_ex g1]
  rfl
end MOR
