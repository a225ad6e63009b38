/-! ===== the model's queries: what would be, the best ===== -/
theorem plc_hi {s : tRow} {sh r x y : Int} (h4 : 0 ≤ s 4 ∧ s 4 ≤ 31) (hT : 0 ≤ s 2 ∧ s 2 ≤ 1) (hs : 0 ≤ sh ∧ sh ≤ 4) (hI : ∀ k, k < shN sh → (0 ≤ cX sh r x k ∧ cX sh r x k ≤ 7) ∧ 0 ≤ cY sh r y k ∧ cY sh r y k ≤ 7) {j : Nat} (hj : 417 ≤ j) : plc s sh r x y j = s j := by
  unfold plc
  rw [fU_n (by omega), fU_n (by omega), fU_n (by unfold plI; omega), fU_n (by unfold plI; omega), fU_n (by omega), fU_n (by omega), fU_n (by omega), fU_n (by omega), fU_n (by omega), fU_n (by omega), fU_n (by omega)]
  exact setC_n hI (by omega)
section MQU
variable {G : tG} {m : Nat} {fi : Nat → Int} {ar : Nat → Nat → Int} {g : tAH} {z : Nat × Nat}
theorem m_mobilityAfter (md : Md fi ar) {sh r u w p : Int} (h1 : InR sh) (h2 : InR r) (h3 : InR u) (h4 : InR w) (h5 : InR p) : MQr m g z fi ar kcA (t_Ev (t_pg G) t_hd Y_X5_mobilityAfter 0 ([some (.ref m), some (.int (iI sh)), some (.int (iI r)), some (.int (iI u)), some (.int (iI w)), some (.int (iI p)), none], [], (hM m fi ar g, z))) (plR (ar 0) sh r u w (pyR p (.inr (if mayP (ar 0) sh r u w = true then movs (plc (ar 0) sh r u w) p else -1)))) := by
  have t20 : ∀ c : Int, t_Ev (t_pg G) t_hd Y_X5_mobilityAfter 20 ([some (.ref m), some (.int (iI sh)), some (.int (iI r)), some (.int (iI u)), some (.int (iI w)), some (.int (iI p)), none], [.int (iI c), (.ref m)], (hM m fi ar g, z)) = t_Ev (t_pg G) t_hd Y_X5_mobilityAfter 43 ([some (.ref m), some (.int (iI sh)), some (.int (iI r)), some (.int (iI u)), some (.int (iI w)), some (.int (iI p)), none], [.int (iI (bB (!(inB (ar 0) u w && isB p 0 1)))), .int (iI c), (.ref m)], (hM m fi ar g, z)) := fun c => by
    rw [b_X5_mobilityAfter_20, mK, Option.bind_some, e_isInside md.w.bd.dm h3.1 h3.2 h4.1 h4.2, bI_rB]
    simp only [bB_0]
    cases inB (ar 0) u w with
    | false => rw [if_pos rfl, b_X5_mobilityAfter_38]; rfl
    | true =>
      rw [if_neg (by decide), e_noPlayer h5, bI_rB]
      simp only [bB_0]
      cases isB p 0 1 with
      | false => rw [show (!false : Bool) = true from rfl, if_neg (by decide), b_X5_mobilityAfter_38]; rfl
      | true => rw [show (!true : Bool) = false from rfl, if_pos rfl]; rfl
  have t0 : t_Ev (t_pg G) t_hd Y_X5_mobilityAfter 0 ([some (.ref m), some (.int (iI sh)), some (.int (iI r)), some (.int (iI u)), some (.int (iI w)), some (.int (iI p)), none], [], (hM m fi ar g, z)) = t_Ev (t_pg G) t_hd Y_X5_mobilityAfter 20 ([some (.ref m), some (.int (iI sh)), some (.int (iI r)), some (.int (iI u)), some (.int (iI w)), some (.int (iI p)), none], [.int (iI (bB (!(isB sh 0 4 && isB r 0 3)))), (.ref m)], (hM m fi ar g, z)) := by
    rw [b_X5_mobilityAfter_0, e_noShape h1, bI_rB]
    simp only [bB_0]
    cases isB sh 0 4 with
    | false => rw [show (!false : Bool) = true from rfl, if_neg (by decide), b_X5_mobilityAfter_15]; rfl
    | true =>
      rw [show (!true : Bool) = false from rfl, if_pos rfl, e_noTurn h2, bI_rB]
      simp only [bB_0]
      cases isB r 0 3 with
      | false => rw [show (!false : Bool) = true from rfl, if_neg (by decide), b_X5_mobilityAfter_15]; rfl
      | true => rw [show (!true : Bool) = false from rfl, if_pos rfl]; rfl
  rw [t0, t20, b_X5_mobilityAfter_43, mK, Option.bind_some]
  unfold plR pyR
  cases c1 : (isB sh 0 4 && isB r 0 3) with
  | false =>
    refine MQr.t7 (w := 0) (c := 1) ?_ rfl
    rw [show bB (!false) = 1 from rfl, ef1, bI_rI, if_neg (by decide)]; rfl
  | true =>
  rw [Bool.and_eq_true] at c1
  have b1 := isB_iff.mp c1.1
  have b2 := isB_iff.mp c1.2
  rw [if_pos rfl, show bB (!true) = 0 from rfl]
  cases c3 : inB (ar 0) u w with
  | false =>
    refine MQr.t7 (w := 0) (c := 2) ?_ rfl
    rw [show bB (!(false && isB p 0 1)) = 1 from rfl, ef01, bI_rI, if_neg (by decide)]; rfl
  | true =>
  rw [if_pos rfl, Bool.true_and]
  have b3 := inB_7 md.w.bd.dm c3
  cases c5 : isB p 0 1 with
  | false =>
    refine MQr.t7 (w := 0) (c := 2) ?_ rfl
    rw [show bB (!false) = 1 from rfl, ef01, bI_rI, if_neg (by decide)]; rfl
  | true =>
  have b5 := isB_iff.mp c5
  rw [if_pos rfl, show bB (!true) = 0 from rfl, ef0, bI_rI, if_pos rfl, mK, Option.bind_some]
  obtain ⟨f1, a1, e1, s1⟩ := e_mayPlace (G := G) (m := m) (fi := fU fi 7 0) (ar := ar) (g := g) (z := z) md.w.bd.dm md.w.rb md.w.py.mv.2 b1.1 b1.2 b2.1 b2.2 b3.1 b3.2
  have a10 : a1 0 = ar 0 := s1.2 0 (by decide)
  rw [e1, bI_rB]
  simp only [bB_0]
  cases cm : mayP (ar 0) sh r u w with
  | false =>
    refine MQr.v (fi' := f1) (ar' := a1) ?_ (q7_Sc.trans s1.q17) ((s1.1 7 (by decide)).trans fU_s)
    rw [if_pos rfl, if_neg (by decide)]; rfl
  | true =>
    have mm := mayP_iff cm
    have p31 := md.w.bd.p31 b1.1 b1.2 b2.1 b2.2 mm.2.2
    have in3 := inB_iff.mp c3
    have w3 := md.w.kPlc b1.1 b1.2 b2.1 b2.2 in3.1 in3.2 cm
    have hI := fun k hk => (mf_in md.w.bd.dm mm.2.2 k hk).2
    obtain ⟨a2, ha2⟩ : ∃ a2, a2 = aS a1 1 (va_cpy (a1 0) (a1 1) 0 0 417) := ⟨_, rfl⟩
    have a20 : a2 0 = ar 0 := by rw [ha2]; exact (aS_n (by decide)).trans a10
    have a21 : a2 1 = va_cpy (ar 0) (a1 1) 0 0 417 := by rw [ha2, a10]; exact aS_s
    have et : t_Ev (t_pg G) t_hd Y_X5_tryOut 0 ([some (.ref m)], [], (hM m f1 a1 g, z)) = rV (hM m f1 a2 g, z) := by
      rw [b_X5_tryOut_0, mgR0, Option.bind_some, mgR1, Option.bind_some, va_rf_some, va_rf_some, show m + 1 = m + 1 + 0 from rfl, show m + 2 = m + 1 + 1 from rfl, e_copy (by decide) (by decide) (Int.le_refl 0) (Int.le_refl 0) (by decide) (by decide), bV_rV, show Int.toNat 0 = 0 from rfl, ← ha2]
      rfl
    obtain ⟨f3, a3, e3, s3, r3⟩ := e_places (G := G) (m := m) (fi := f1) (ar := a2) (g := g) (z := z) (by rw [a20]; exact md.w.bd.dm) (by rw [a20]; exact md.w.rb) (by rw [a20]; exact md.w.py.mv.2) (by rw [a20]; exact p31) b1.1 b1.2 b2.1 b2.2 b3.1 b3.2 hI
    rw [a20] at r3
    obtain ⟨f4, a4, e4, s4⟩ := e_moves (G := G) (m := m) (fi := f3) (ar := a3) (g := g) (z := z) (by rw [r3]; exact w3.bd.dm) (by rw [r3]; exact w3.rb) b5.1 b5.2
    rw [r3] at e4
    have a40 : a4 0 = plc (ar 0) sh r u w := (s4.2 0 (by decide)).trans r3
    have a41 : a4 1 = va_cpy (ar 0) (a1 1) 0 0 417 := (s4.2 1 (by decide)).trans ((s3.2 1 (by decide)).trans a21)
    have el : ∀ v : Int, t_Ev (t_pg G) t_hd Y_X5_laidBack 0 ([some (.ref m), some (.int (iI v))], [], (hM m f4 a4 g, z)) = rI v (hM m f4 (aS a4 0 (ar 0)) g, z) := fun v => by
      rw [b_X5_laidBack_0, mgR1, Option.bind_some, mgR0, Option.bind_some, va_rf_some, va_rf_some, show m + 2 = m + 1 + 1 from rfl, show m + 1 = m + 1 + 0 from rfl, e_copy (by decide) (by decide) (Int.le_refl 0) (Int.le_refl 0) (by decide) (by decide), bV_rV]
      have e : va_cpy (a4 1) (a4 0) (Int.toNat 0) (Int.toNat 0) 417 = ar 0 := by
        rw [a41, a40]
        funext j
        by_cases c : j < 417
        · exact (cpy_0 c).trans (cpy_0 c)
        · show va_cpy _ _ 0 0 417 j = _
          unfold va_cpy
          rw [if_neg (by omega)]
          exact plc_hi ⟨md.w.bd.np.1, p31⟩ md.w.py.mv b1 hI (by omega)
      rw [e]
      rfl
    refine MQr.v (fi' := f4) (ar' := aS a4 0 (ar 0)) (w := movs (plc (ar 0) sh r u w) p) ?_ ?_ ?_
    · rw [if_neg (by decide), mK, Option.bind_some, et, bV_rV, mK, Option.bind_some, e3, bI_rI, mK, Option.bind_some, e4, bI_rI, mK, Option.bind_some, el, bI_rI]
      rfl
    · have s14 : Sc QI (0 :: QA) fi ar f4 a4 := by
        have t1 : Sc QI (0 :: QA) fi ar f1 a1 := (q7_Sc.trans s1.q17).mono (fun _ h => h) (fun _ h => List.mem_cons_of_mem _ h)
        have t2 : Sc QI (0 :: QA) fi ar f1 a2 := by rw [ha2]; exact t1.aS (by decide)
        exact (t2.trans (s3.mono (by decide) (by decide))).trans (s4.mono (by decide) (by decide))
      refine ⟨s14.1, fun k hk => ?_⟩
      by_cases c : k = 0
      · rw [c]; exact aS_s
      · exact (aS_n c).trans (s14.2 k (fun q => by rcases List.mem_cons.mp q with q | q; exact c q; exact hk q))
    · exact (s4.1 7 (by decide)).trans ((s3.1 7 (by decide)).trans ((s1.1 7 (by decide)).trans fU_s))
/-- the best so far, in the model's fields -/
def BR (b : Int × Option (Int × Int × Int × Int)) (f : Nat → Int) : Prop := (0 ≤ b.1 ∧ b.1 ≤ 68) ∧ match b.2 with
  | none => f 24 = -1 ∧ f 25 = -1 ∧ f 26 = -1 ∧ f 27 = -1
  | some t => f 24 = t.1 ∧ f 25 = t.2.1 ∧ f 26 = t.2.2.1 ∧ f 27 = t.2.2.2
theorem BR.cg {b : Int × Option (Int × Int × Int × Int)} {f f' : Nat → Int} (h : BR b f) (h1 : ∀ j, 24 ≤ j → j ≤ 27 → f' j = f j) : BR b f' := by
  refine ⟨h.1, ?_⟩
  have h2 := h.2
  rw [h1 24 (by decide) (by decide), h1 25 (by decide) (by decide), h1 26 (by decide) (by decide), h1 27 (by decide) (by decide)]
  exact h2
theorem BR.c17 {b : Int × Option (Int × Int × Int × Int)} {f f' : Nat → Int} {a a' : Nat → Nat → Int} (h : BR b f) (s : Sc [17] [10, 11] f a f' a') : BR b f' := h.cg fun j h1 h2 => s.1 j (by simp; omega)
theorem m_bestOf20 (md : Md fi ar) {sh r y : Int} (h1 : 0 ≤ sh) (h2 : sh ≤ 4) (h3 : 0 ≤ r) (h4 : r ≤ 3) (h6 : 0 ≤ y ∧ y ≤ 7) {b : Int × Option (Int × Int × Int × Int)} {f0 : Nat → Int} {a0 : Nat → Nat → Int} (hb : BR b f0) (hs : Sc QI QA fi ar f0 a0) {v3 u7 : Option Value} :
    ∃ f1 a1 u, t_Ev (t_pg G) t_hd Y_X5_bestOf 20 ([some (.ref m), some (.int (iI sh)), some (.int (iI r)), v3, some (.int (iI b.1)), some (.int (iI y)), some (.int (iI 0)), u7], [], (hM m f0 a0 g, z)) = t_Ev (t_pg G) t_hd Y_X5_bestOf 6 ([some (.ref m), some (.int (iI sh)), some (.int (iI r)), v3, some (.int (iI ((vX (ar 0) (bsf (ar 0)) sh r y b).1))), some (.int (iI (y + 1))), some (.int (iI (ar 0 0))), u], [], (hM m f1 a1 g, z)) ∧ BR (vX (ar 0) (bsf (ar 0)) sh r y b) f1 ∧ Sc QI QA fi ar f1 a1 ∧ f1 7 = f0 7 := by
  have hd := md.w.bd.dm.1
  have hn := tn_of hd.1
  obtain ⟨⟨f1, a1, u⟩, ⟨i1, i2, i3⟩, lo⟩ := lp_ik (N := (ar 0 0).toNat) (σ := (Nat → Int) × (Nat → Nat → Int) × Option Value) (I := fun k c => BR (fd (fun x st => if mf (ar 0) sh r x y = 0 then bsf (ar 0) sh r x y st else st) k b) c.1 ∧ Sc QI QA fi ar c.1 c.2.1 ∧ c.1 7 = f0 7) (F := fun k c => t_Ev (t_pg G) t_hd Y_X5_bestOf 20 ([some (.ref m), some (.int (iI sh)), some (.int (iI r)), v3, some (.int (iI ((fd (fun x st => if mf (ar 0) sh r x y = 0 then bsf (ar 0) sh r x y st else st) k b).1))), some (.int (iI y)), some (.int (iI (k : Int))), c.2.2], [], (hM m c.1 c.2.1 g, z))) (fun k hk c hc => by
    obtain ⟨hB, hS, h7⟩ := hc
    have c0 : c.2.1 0 = ar 0 := hS.2 0 (by decide)
    obtain ⟨f2, a2, e2, s2, -⟩ := e_misfit (G := G) (m := m) (fi := c.1) (ar := c.2.1) (g := g) (z := z) (sh := sh) (r := r) (x := k) (y := y) (by rw [c0]; exact md.w.bd.dm) (by rw [c0]; exact md.w.rb) h1 h2 h3 h4 (by omega) h6
    rw [c0] at e2
    have hm := mf_b (s := ar 0) (sh := sh) (r := r) (x := k) (y := y)
    have a20 : a2 0 = ar 0 := (s2.2 0 (by decide)).trans c0
    have hB2 := hB.c17 s2
    have hS2 := hS.trans s2.q17
    have h72 := (s2.1 7 (by decide)).trans h7
    rw [fd]
    try dsimp only
    generalize fd (fun x st => if mf (ar 0) sh r x y = 0 then bsf (ar 0) sh r x y st else st) k b = B at hB hB2 ⊢
    rw [b_X5_bestOf_20]
    simp (disch := omega) only [mK, mgI6, mgI7, mgI13, mgI14, mgI15, mgI16, mgI17, mgI18, mgI19, mgI20, mgI21, mgI22, mgI23, mgI24, mgI25, mgI26, mgI27, mgR0, mgR1, mgR2, mgR3, mgR4, mgR5, mgR8, mgR9, mgR10, mgR11, mgR12, Option.bind_some, va_rf_some, va_rf_none, bI_rI, bI_rB, bV_rV, bB_0, bB_1, iI_add, iI_sub, iI_mul, iI_neg, rI_of, rV_of, Int.reduceToNat, Int.neg_neg, mld0, c0, iI_lt]
    rw [if_pos (show (k : Int) < ar 0 0 by omega), e2, bI_rI]
    simp (disch := omega) only [iI_inj]
    by_cases q : mf (ar 0) sh r k y = 0
    · obtain ⟨f3, a3, e3, s3, -⟩ := e_points (G := G) (m := m) (fi := f2) (ar := a2) (g := g) (z := z) (sh := sh) (r := r) (x := k) (y := y) (by rw [a20]; exact md.w.bd.dm) (by rw [a20]; exact md.w.rb) h1 h2 h3 h4 (by omega) h6
      rw [a20] at e3
      have pb := pts_b md.w.bd.dm (sh := sh) (r := r) (y := y)
      have hB3 := hB2.c17 s3
      have b1 := hB.1
      rw [if_pos q, if_pos q, mK, Option.bind_some, e3, bI_rI]
      simp (disch := omega) only [iI_lt]
      by_cases q2 : B.1 < pts (ar 0) sh r y
      · have g24 : fU (fU (fU (fU f3 24 sh) 25 r) 26 (k : Int)) 27 y 24 = sh := (fU_n (by decide)).trans ((fU_n (by decide)).trans ((fU_n (by decide)).trans fU_s))
        have g25 : fU (fU (fU (fU f3 24 sh) 25 r) 26 (k : Int)) 27 y 25 = r := (fU_n (by decide)).trans ((fU_n (by decide)).trans fU_s)
        have g26 : fU (fU (fU (fU f3 24 sh) 25 r) 26 (k : Int)) 27 y 26 = k := (fU_n (by decide)).trans fU_s
        have g27 : fU (fU (fU (fU f3 24 sh) 25 r) 26 (k : Int)) 27 y 27 = y := fU_s
        have g7 : fU (fU (fU (fU f3 24 sh) 25 r) 26 (k : Int)) 27 y 7 = f0 7 := (fU_n (by decide)).trans ((fU_n (by decide)).trans ((fU_n (by decide)).trans ((fU_n (by decide)).trans ((s3.1 7 (by decide)).trans h72))))
        refine ⟨(fU (fU (fU (fU f3 24 sh) 25 r) 26 k) 27 y, a3, some (.int (iI (pts (ar 0) sh r y)))), ?_, ?_⟩
        · rw [show bsf (ar 0) sh r k y B = (pts (ar 0) sh r y, some (sh, r, (k : Int), y)) from if_pos q2]
          exact ⟨⟨(by omega : 0 ≤ pts (ar 0) sh r y ∧ pts (ar 0) sh r y ≤ 68), g24, g25, g26, g27⟩, (((((hS2.trans s3.q17).fU (by decide)).fU (by decide)).fU (by decide)).fU (by decide)), g7⟩
        · rw [show bsf (ar 0) sh r k y B = (pts (ar 0) sh r y, some (sh, r, (k : Int), y)) from if_pos q2, if_pos q2]
          simp only [mpI6, mpI7, mpI13, mpI14, mpI15, mpI16, mpI17, mpI18, mpI19, mpI20, mpI21, mpI22, mpI23, mpI24, mpI25, mpI26, mpI27, Option.bind_some, iI_add]
          (try rfl)
      · refine ⟨(f3, a3, some (.int (iI (pts (ar 0) sh r y)))), ?_, ?_⟩
        · rw [show bsf (ar 0) sh r k y B = B from if_neg q2]
          exact ⟨hB3, hS2.trans s3.q17, (s3.1 7 (by decide)).trans h72⟩
        · rw [show bsf (ar 0) sh r k y B = B from if_neg q2, if_neg q2]
          rfl
    · refine ⟨(f2, a2, c.2.2), ?_, ?_⟩
      · rw [if_neg q]
        exact ⟨hB2, hS2, h72⟩
      · rw [if_neg q, if_neg q]
        rfl) (f0, a0, u7) ⟨hb, hs, rfl⟩
  refine ⟨f1, a1, u, Eq.trans lo ?_, i1, i2, i3⟩
  have c0 : a1 0 = ar 0 := i2.2 0 (by decide)
  try dsimp only
  rw [b_X5_bestOf_20]
  simp (disch := omega) only [mK, mgI6, mgI7, mgI13, mgI14, mgI15, mgI16, mgI17, mgI18, mgI19, mgI20, mgI21, mgI22, mgI23, mgI24, mgI25, mgI26, mgI27, mgR0, mgR1, mgR2, mgR3, mgR4, mgR5, mgR8, mgR9, mgR10, mgR11, mgR12, Option.bind_some, va_rf_some, va_rf_none, bI_rI, bI_rB, bV_rV, bB_0, bB_1, iI_add, iI_sub, iI_mul, iI_neg, rI_of, rV_of, Int.reduceToNat, Int.neg_neg, mld0, c0, iI_lt]
  rw [if_neg (by omega), hn]
  rfl
end MQU
