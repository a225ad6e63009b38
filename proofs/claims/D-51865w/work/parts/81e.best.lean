/-! ===== the component: the best placement ===== -/
def rR (o : Option Nat) (hs : tHS) : Option tRS := some (.inl (some (va_rf o)), hs)
theorem bR_rR {K : Option Nat → tHS → Option tRS} {X : Nat → tHS → Option tRS} {hs : tHS} {o : Option Nat} : bndR (rR o hs) K X = K o hs := bndR_rf
theorem bR_ex {o : Option tRS} {K : Option Nat → tHS → Option tRS} {X : Nat → tHS → Option tRS} {hs : tHS} {q : Option Nat} (h : o = rR q hs) : bndR o K X = K q hs := by rw [h]; exact bndR_rf
theorem bI_ex {o : Option tRS} {K : Int32 → tHS → Option tRS} {X : Nat → tHS → Option tRS} {hs : tHS} {z : Int} (h : o = rI z hs) : bndI o K X = K (iI z) hs := by rw [h]; rfl
theorem bB_ex {o : Option tRS} {K : Int32 → tHS → Option tRS} {X : Nat → tHS → Option tRS} {hs : tHS} {z : Bool} (h : o = rB z hs) : bndI o K X = K (iI (bB z)) hs := by rw [h]; rfl
theorem rR_some {a : Nat} {hs : tHS} : (some (.inl (some (.ref a)), hs) : Option tRS) = rR (some a) hs := rfl
theorem rR_rf {o : Option Nat} {hs : tHS} : (some (.inl (some (va_rf o)), hs) : Option tRS) = rR o hs := rfl
theorem t_up_up {h : tAH} {z : Nat} {e e' : tEnt} : t_up (t_up h z e) z e' = t_up h z e' := by
  funext w
  unfold t_up
  by_cases c : w = z <;> simp [c]
theorem isK_at {h : tAH} {a c : Nat} {b : Bool} {fs : List Value} (hh : h a = some (b, c, .inl fs)) : t_isK h (.ref a) c = some (some a) := by simp only [t_isK, hh, if_true]
theorem stR_at {h : tAH} {a kd n c : Nat} {f : Nat → Option Nat} {z : Int} {v : Value} {o : Option Nat} (hh : h a = some (true, kd, .inr (n, .inr (.inr (.inr (.inr f)))))) (hv : t_isK h v c = some o) (h0 : 0 ≤ z) (h1 : z < n) (h3 : n ≤ 2147483647) : stR h (.ref a) (iI z) kd c v = some (t_up h a (true, kd, .inr (n, .inr (.inr (.inr (.inr (va_up f z.toNat o))))))) := by
  simp only [stR, hv, hh]
  rw [if_pos ⟨trivial, t_in_iI h0 h1 h3⟩, iI_clamp h0 (by omega)]
theorem va_up_s {f : Nat → Option Nat} {k : Nat} {v : Option Nat} : va_up f k v k = v := by unfold va_up; exact if_pos rfl
theorem va_up_n {f : Nat → Option Nat} {k j : Nat} {v : Option Nat} (h : j ≠ k) : va_up f k v j = f j := by unfold va_up; exact if_neg h
section BST
variable {G : tG} {D M : Nat → Prop} {hs : tHS} {a fl : Nat} {s : tRow}
theorem c_copyPl {q : Nat} {sh r x y : Int} (hF : Fi hs) (P : PL G D hs.1 q sh r x y) : t_Ev (t_pg G) t_hd Y_X8_copy 0 ([some (.ref q)], [], hs) = rR (some hs.2.1) (t_up hs.1 hs.2.1 (true, 5, .inl [.ref (G.1 sh.toNat), .int (iI r), .int (iI x), .int (iI y)]), hs.2.1 + 1, hs.2.2 + 4) := by
  have hne : q ≠ hs.2.1 := Nat.ne_of_lt (hF.lt P.2)
  have P' : PL G D (t_up hs.1 hs.2.1 (true, 5, .inl [.null, .int (iI 0), .int (iI 0), .int (iI 0)])) q sh r x y := ⟨P.1, (t_up_n hne).trans P.2⟩
  rw [b_X8_copy_0]
  simp only [al_1, al_2, P'.r0, P'.i1, P'.i2, P'.i3, Option.bind_some, va_rf_some, b_X8_init_0]
  rw [pf_at t_up_s (Nat.le_of_ble_eq_true rfl)]
  simp only [Option.bind_some, t_up_up]
  rw [pf_at t_up_s (Nat.le_of_ble_eq_true rfl)]
  simp only [Option.bind_some, t_up_up]
  rw [pf_at t_up_s (Nat.le_of_ble_eq_true rfl)]
  simp only [Option.bind_some, t_up_up]
  rw [pf_at t_up_s (Nat.le_of_ble_eq_true rfl)]
  simp only [Option.bind_some, t_up_up]
  (try rfl)
def bsg (s : tRow) (sh r x y : Int) (b : (Int × Option (Int × Int × Int × Int)) × Nat) : (Int × Option (Int × Int × Int × Int)) × Nat := (bsf s sh r x y b.1, b.2 + 1)
def BJ (G : tG) (hs : tHS) (a : Nat) (b : (Int × Option (Int × Int × Int × Int)) × Nat) (h : tHS) : Prop :=
  Ex (5 + b.2) (10 + 4 * b.2) hs h ∧ (∃ fb, h.1 hs.2.1 = some (true, 9, .inr (1, .inr (.inr (.inr (.inr fb))))) ∧ PO G h.1 (fb 0) b.1.2 ∧ ∀ q, fb 0 = some q → hs.2.1 + 5 ≤ q ∧ q < h.2.1) ∧ (∃ f, h.1 (hs.2.1 + 1) = some (true, 0, .inr (1, .inl f)) ∧ f 0 = iI b.1.1) ∧ (0 ≤ b.1.1 ∧ b.1.1 ≤ 68) ∧ h.1 (hs.2.1 + 2) = some (true, 102, .inl [.ref a]) ∧ h.1 (hs.2.1 + 3) = some (true, 103, .inl [.ref a, .ref (hs.2.1 + 1), .ref hs.2.1]) ∧ hs.2.1 + 5 ≤ h.2.1
theorem c_bestPlacement (hF : Fi hs) (H : GR G D M hs.1 a s 2) (C : CH G D hs.1) (hD : Dm s) (hB : RB s) (hT : s 2 ≤ 1) : ∃ hs' o, t_Ev (t_pg G) t_hd Y_X3_bestPlacement 0 ([some (.ref a), none, none], [], hs) = rR o hs' ∧ PO G hs'.1 o (bst s) ∧ Ex 1285 5130 hs hs' := by
  have ht := (hB 2).1
  obtain ⟨sv, e1, hS⟩ := H.sv
  have x1 : Ex 1 1 hs (t_al hs (t_arr0 9 1) 1) := Ex.al hF
  have x2 : Ex 2 2 hs (t_al (t_al hs (t_arr0 9 1) 1) (t_arr0 0 1) 1) := x1.trans (Ex.al x1.fi)
  have c0 : (t_al (t_al hs (t_arr0 9 1) 1) (t_arr0 0 1) 1).1 hs.2.1 = some (t_arr0 9 1) := (t_up_n (Nat.ne_of_lt (Nat.lt_succ_self _))).trans t_up_s
  have c1 : (t_al (t_al hs (t_arr0 9 1) 1) (t_arr0 0 1) 1).1 (hs.2.1 + 1) = some (t_arr0 0 1) := t_up_s
  have hz : (t_al (t_al hs (t_arr0 9 1) 1) (t_arr0 0 1) 1).2 = (hs.2.1 + 2, hs.2.2 + 2) := rfl
  rw [b_X3_bestPlacement_0]
  rw [show ((t_al hs (t_arr0 9 1) 1).2).1 = hs.2.1 + 1 from rfl]
  generalize t_al (t_al hs (t_arr0 9 1) 1) (t_arr0 0 1) 1 = hs2 at *
  have k2 : ∀ T, Kp T hs.1 hs2.1 := fun T => Kp.ex hF x2
  have H2 := H.kp (k2 _)
  simp only [H2.k, Option.bind_some, c_isFinished H2 hB, bI_rB, bB_0]
  unfold bst
  cases ovr s with
  | true =>
    refine ⟨hs2, none, ?_, trivial, x2.le (by decide) (by decide)⟩
    simp only [Bool.true_eq_false, if_false]
    rw [ldR_at (z := 0) c0 (by decide) (by decide) (by decide) (by decide)]
    rfl
  | false =>
    have x3 : Ex 3 3 hs (t_al hs2 (true, 102, .inl [.ref a]) 1) := x2.trans (Ex.al x2.fi)
    have x4 : Ex 4 6 hs (t_al (t_al hs2 (true, 102, .inl [.ref a]) 1) (true, 103, .inl [.ref a, .ref (hs.2.1 + 1), .ref hs.2.1]) 3) := x3.trans (Ex.al x3.fi)
    have a1 : ((t_al hs2 (true, 102, .inl [.ref a]) 1).2).1 = hs.2.1 + 3 := by rw [al_2, hz]
    have a2 : hs2.2.1 = hs.2.1 + 2 := by rw [hz]
    have d0 : (t_al (t_al hs2 (true, 102, .inl [.ref a]) 1) (true, 103, .inl [.ref a, .ref (hs.2.1 + 1), .ref hs.2.1]) 3).1 hs.2.1 = some (t_arr0 9 1) := (t_up_n (by rw [a1]; omega)).trans ((t_up_n (by rw [a2]; omega)).trans c0)
    have d1 : (t_al (t_al hs2 (true, 102, .inl [.ref a]) 1) (true, 103, .inl [.ref a, .ref (hs.2.1 + 1), .ref hs.2.1]) 3).1 (hs.2.1 + 1) = some (t_arr0 0 1) := (t_up_n (by rw [a1]; omega)).trans ((t_up_n (by rw [a2]; omega)).trans c1)
    have d2 : (t_al (t_al hs2 (true, 102, .inl [.ref a]) 1) (true, 103, .inl [.ref a, .ref (hs.2.1 + 1), .ref hs.2.1]) 3).1 (hs.2.1 + 2) = some (true, 102, .inl [.ref a]) := (t_up_n (by rw [a1]; omega)).trans (by rw [← a2]; exact t_up_s)
    have d3 : (t_al (t_al hs2 (true, 102, .inl [.ref a]) 1) (true, 103, .inl [.ref a, .ref (hs.2.1 + 1), .ref hs.2.1]) 3).1 (hs.2.1 + 3) = some (true, 103, .inl [.ref a, .ref (hs.2.1 + 1), .ref hs.2.1]) := by rw [← a1]; exact t_up_s
    have hz4 : (t_al (t_al hs2 (true, 102, .inl [.ref a]) 1) (true, 103, .inl [.ref a, .ref (hs.2.1 + 1), .ref hs.2.1]) 3).2 = (hs.2.1 + 4, hs.2.2 + 6) := by rw [al_2, al_2, hz]
    simp only [a1, a2, if_true]
    generalize t_al (t_al hs2 (true, 102, .inl [.ref a]) 1) (true, 103, .inl [.ref a, .ref (hs.2.1 + 1), .ref hs.2.1]) 3 = hs4 at *
    have k4 : ∀ T, Kp T hs.1 hs4.1 := fun T => Kp.ex hF x4
    have H4 := H.kp (k4 _)
    have g4 : gfR hs4.1 (.ref a) 2 0 = some (some sv) := by
      obtain ⟨sv0, ca, sa, pa, qa, fc, fs, fp, fq, pl, su, ⟨m1, f1⟩, -⟩ := id H
      have := gfR_at (k := 0) (q := sv0) f1 rfl
      rw [e1] at this
      cases this
      exact gfR_at (k4 (fun _ => true) _ _ f1 rfl) rfl
    have V : Vw G D M a s (hs.2.1 + 3) hs4.2.1 sv (bsg s) (BJ G hs a) := by
      rw [hz4]
      refine ⟨fun b h hj => ⟨H.kp (Kp.ex hF hj.1), C.kp (Kp.ex hF hj.1), (hS.kp (Kp.ex hF hj.1)).dm fun _ _ _ _ => trivial⟩, fun b h e e' hj hq => ?_, fun b h sh r x y hj hP h1 h2 h3 h4 h5 h6 h7 => ?_⟩
      · obtain ⟨j1, ⟨fb, j2, j2', j2''⟩, ⟨f, j3, j3'⟩, j4, j5, j6, j7⟩ := hj
        refine ⟨j1.up hq (by show _ ≤ hs.2.1 + 4; omega), ⟨fb, (t_up_n (by show hs.2.1 ≠ hs.2.1 + 4; omega)).trans j2, j2'.of fun q hq' => t_up_n (by have := j2'' q hq'; show q ≠ hs.2.1 + 4; omega), j2''⟩, ⟨f, (t_up_n (by show hs.2.1 + 1 ≠ hs.2.1 + 4; omega)).trans j3, j3'⟩, j4, (t_up_n (by show hs.2.1 + 2 ≠ hs.2.1 + 4; omega)).trans j5, (t_up_n (by show hs.2.1 + 3 ≠ hs.2.1 + 4; omega)).trans j6, j7⟩
      · obtain ⟨j1, ⟨fb, j2, j2', j2''⟩, ⟨f, j3, j3'⟩, j4, j5, j6, j7⟩ := hj
        have Hh := H.kp (Kp.ex hF j1)
        have Ch := C.kp (Kp.ex hF j1)
        have hp := pts_b hD (sh := sh) (r := r) (y := y)
        have hfn : t_fn h.1 (.ref (hs.2.1 + 3)) [(101, 166, 0, 99, 1), (103, 168, 1, 2, 3), (105, 170, 0, 2, 2), (107, 171, 1, 0, 2)] = some (168, 1, [.ref a, .ref (hs.2.1 + 1), .ref hs.2.1]) := tfn_of (q := (103, 168, 1, 2, 3)) j6 rfl rfl ⟨rfl, Or.inr (by show (t_kN h.1 (.ref a) 2).isSome = true; rw [Hh.k]; rfl)⟩
        have hpo := c_pointsOf (hs := h) Hh.tr Ch.tr hP hD hB h1 h2 h3 h4 h5 h6
        have hrun : t_Ev (t_pg G) t_hd 168 0 (t_l0 ([.ref a, .ref (hs.2.1 + 1), .ref hs.2.1] ++ [.ref (hs.2.1 + 4)]) 1, [], h) = t_Ev (t_pg G) t_hd Y_X3_lambda_bestPlacement_3 0 ([some (.ref a), some (.ref (hs.2.1 + 1)), some (.ref hs.2.1), some (.ref (hs.2.1 + 4)), none], [], h) := rfl
        by_cases cm : b.1.1 < pts s sh r y
        · have q0 : (t_up h.1 (hs.2.1 + 1) (true, 0, .inr (1, .inl (upd f 0 (iI (pts s sh r y)))))) (hs.2.1 + 4) = some (true, 5, .inl [.ref (G.1 sh.toNat), .int (iI r), .int (iI x), .int (iI y)]) := (t_up_n (by omega)).trans hP.2
          have x5 := j1.up (e := (true, 0, .inr (1, .inl (upd f 0 (iI (pts s sh r y)))))) j3 (by omega)
          have P5 : PL G (fun _ => True) (t_up h.1 (hs.2.1 + 1) (true, 0, .inr (1, .inl (upd f 0 (iI (pts s sh r y)))))) (hs.2.1 + 4) sh r x y := ⟨trivial, q0⟩
          have hcp := c_copyPl (hs := (t_up h.1 (hs.2.1 + 1) (true, 0, .inr (1, .inl (upd f 0 (iI (pts s sh r y))))), h.2)) x5.fi P5
          have x6 : Ex (5 + (b.2 + 1)) (10 + 4 * (b.2 + 1)) hs (t_up (t_up h.1 (hs.2.1 + 1) (true, 0, .inr (1, .inl (upd f 0 (iI (pts s sh r y)))))) h.2.1 (true, 5, .inl [.ref (G.1 sh.toNat), .int (iI r), .int (iI x), .int (iI y)]), h.2.1 + 1, h.2.2 + 4) := (x5.trans (Ex.al x5.fi)).le (by omega) (by omega)
          have n1 : hs.2.1 ≠ h.2.1 := by omega
          have n2 : hs.2.1 + 1 ≠ h.2.1 := by omega
          have b6 : (t_up (t_up h.1 (hs.2.1 + 1) (true, 0, .inr (1, .inl (upd f 0 (iI (pts s sh r y)))))) h.2.1 (true, 5, .inl [.ref (G.1 sh.toNat), .int (iI r), .int (iI x), .int (iI y)])) hs.2.1 = some (true, 9, .inr (1, .inr (.inr (.inr (.inr fb))))) := (t_up_n n1).trans ((t_up_n (by omega)).trans j2)
          have x7 := x6.up (e := (true, 9, .inr (1, .inr (.inr (.inr (.inr (va_up fb 0 (some h.2.1)))))))) b6 (Nat.le_refl _)
          refine ⟨_, _, _, (t_up (t_up (t_up h.1 (hs.2.1 + 1) (true, 0, .inr (1, .inl (upd f 0 (iI (pts s sh r y)))))) h.2.1 (true, 5, .inl [.ref (G.1 sh.toNat), .int (iI r), .int (iI x), .int (iI y)])) hs.2.1 (true, 9, .inr (1, .inr (.inr (.inr (.inr (va_up fb 0 (some h.2.1))))))), h.2.1 + 1, h.2.2 + 4), hfn, ?_, ?_, ?_⟩
          · rw [hrun, b_X3_lambda_bestPlacement_3_0]
            simp only [Hh.k, Option.bind_some]
            rw [bI_ex hpo, ldI_at (z := 0) j3 (by decide) (by decide) (by decide) (by decide)]
            simp (disch := omega) only [Option.bind_some, Int.reduceToNat, j3', iI_lt, cm, if_true]
            rw [stI_at j3 (by decide) (by decide) (by decide) (by decide)]
            simp only [Option.bind_some, Int.reduceToNat]
            rw [show t_nar 0 (iI (pts s sh r y)) = iI (pts s sh r y) from rfl, P5.k]
            simp only [Option.bind_some]
            rw [bR_ex hcp, va_rf_some, stR_at b6 (isK_at t_up_s) (by decide) (by decide) (by decide)]
            rfl
          · show BJ G hs a (bsf s sh r x y b.1, b.2 + 1) _
            have eb : bsf s sh r x y b.1 = (pts s sh r y, some (sh, r, x, y)) := if_pos cm
            rw [eb]
            refine ⟨x7, ⟨_, t_up_s, ?_, fun q hq => ?_⟩, ⟨_, (t_up_n (by omega)).trans ((t_up_n n2).trans t_up_s), upd_s⟩, by dsimp only; omega, (t_up_n (by omega)).trans ((t_up_n (by omega)).trans ((t_up_n (by omega)).trans j5)), (t_up_n (by omega)).trans ((t_up_n (by omega)).trans ((t_up_n (by omega)).trans j6)), by show _ ≤ h.2.1 + 1; omega⟩
            · rw [va_up_s]
              exact ⟨⟨trivial, (t_up_n n1.symm).trans t_up_s⟩, h1, h2⟩
            · rw [va_up_s] at hq
              cases hq
              show _ ≤ h.2.1 ∧ h.2.1 < h.2.1 + 1
              omega
          · exact ⟨trivial, (t_up_n (by show hs.2.1 + 4 ≠ hs.2.1; omega)).trans ((t_up_n (by show hs.2.1 + 4 ≠ h.2.1; omega)).trans q0)⟩
        · refine ⟨_, _, _, h, hfn, ?_, ?_, hP⟩
          · rw [hrun, b_X3_lambda_bestPlacement_3_0]
            simp only [Hh.k, Option.bind_some]
            rw [bI_ex hpo, ldI_at (z := 0) j3 (by decide) (by decide) (by decide) (by decide)]
            simp (disch := omega) only [Option.bind_some, Int.reduceToNat, j3', iI_lt, cm, if_false]
            (try rfl)
          · show BJ G hs a (bsf s sh r x y b.1, b.2 + 1) _
            have eb : bsf s sh r x y b.1 = b.1 := if_neg cm
            rw [eb]
            exact ⟨j1.le (by omega) (by omega), ⟨fb, j2, j2', j2''⟩, ⟨f, j3, j3'⟩, j4, j5, j6, j7⟩
    have x5 : Ex 5 10 hs (t_al hs4 (true, 5, .inl [.ref (G.1 0), .int (iI 0), .int (iI 0), .int (iI 0)]) 4) := x4.trans (Ex.al x4.fi)
    have hz4' : hs4.2.1 = hs.2.1 + 4 := by rw [hz4]
    obtain ⟨hs', sh', r', x', y', g1, g2, -⟩ := c_visitFitting (fl := hs.2.1 + 2) (vi := hs.2.1 + 3) (φ := fun sh => decide (0 < ofS s (s 2) (2 + sh))) (st := (((0 : Int), none), (0 : Nat))) x4.fi g4 (hS.kp (k4 _)) V
      (fun b h sh hj h3 h4 => by
        have Hh := H.kp (Kp.ex hF hj.1)
        refine ⟨_, _, _, tfn_of hj.2.2.2.2.1 rfl rfl ⟨rfl, Or.inr (by show (t_kN h.1 (.ref a) 2).isSome = true; rw [Hh.k]; rfl)⟩, ?_⟩
        show t_Ev (t_pg G) t_hd Y_X3_lambda_bestPlacement_2 0 ([some (.ref a), some (.ref (G.1 sh.toNat))], [], h) = _
        rw [b_X3_lambda_bestPlacement_2_0]
        simp (disch := omega) only [Option.bind_some, va_rf_some, va_rf_none, bI_rI, bI_rB, bV_rV, bB_0, bB_1, iI_add, iI_sub, iI_mul, iI_neg, rI_of, rV_of, Int.reduceToNat, Int.neg_neg, Hh.k, Hh.i9, c_hasPiece Hh (C.kp (Kp.ex hF hj.1)) hB h3 h4 ht (show s 2 < ((2 : Nat) : Int) by omega) (Nat.le_refl 2)]
        rw [if_pos bB_ok]
        rfl)
      ⟨x5, ⟨fun _ => none, (t_up_n (by omega)).trans d0, trivial, fun q hq => by cases hq⟩, ⟨fun _ => 0, (t_up_n (by omega)).trans d1, rfl⟩, ⟨Int.le_refl 0, (by decide)⟩, (t_up_n (by omega)).trans d2, (t_up_n (by omega)).trans d3, by rw [al_2, hz4']; exact Nat.le_refl _⟩ hD hB
    obtain ⟨j1, ⟨fb, j2, j2', -⟩, -⟩ := g2
    have hle := vF_le hD (f := bsg s) (φ := fun sh => decide (0 < ofS s (s 2) (2 + sh))) (μ := fun b => b.2) (fun _ _ _ _ _ => Nat.le_refl _) (st := (((0 : Int), none), (0 : Nat)))
    rw [vF_map (s := s) (f := bsg s) (g := bsf s) (π := fun b => b.1) (fun _ _ _ _ _ => rfl)] at j2'
    refine ⟨hs', fb 0, ?_, j2', j1.le (by dsimp only at hle; omega) (by dsimp only at hle; omega)⟩
    simp only [H4.k, Option.bind_some]
    rw [bV_ex g1, ldR_at (z := 0) j2 (by decide) (by decide) (by decide) (by decide)]
    rfl
end BST
