/-! ===== the model's other changes ===== -/
section MMV
variable {G : tG} {m : Nat} {fi : Nat → Int} {ar : Nat → Nat → Int} {g : tAH} {z : Nat × Nat} {kc : Nat → Int}
theorem m_fasten (md : Md fi ar) {u w d : Int} (h1 : InR u) (h2 : InR w) (h3 : InR d) : MM m g z kcA (t_Ev (t_pg G) t_hd Y_X5_fastenStrap 0 ([some (.ref m), some (.int (iI u)), some (.int (iI w)), some (.int (iI d)), none, none], [], (hM m fi ar g, z))) (egR (ar 0) u w d (if mayF (ar 0) u w d = true then .inr (ofS (ar 0) (ar 0 2) 1 - 1) else .inl 16)) (mvF (isB d 0 1 && (isEd (ar 0) u w d && mayF (ar 0) u w d)) fi) (mvA (isB d 0 1 && (isEd (ar 0) u w d && mayF (ar 0) u w d)) fi ar (fas (ar 0) u w d)) := by
  have t0 : t_Ev (t_pg G) t_hd Y_X5_fastenStrap 0 ([some (.ref m), some (.int (iI u)), some (.int (iI w)), some (.int (iI d)), none, none], [], (hM m fi ar g, z)) = t_Ev (t_pg G) t_hd Y_X5_fastenStrap 21 ([some (.ref m), some (.int (iI u)), some (.int (iI w)), some (.int (iI d)), some (.int (iI (bB (!isB d 0 1)))), none], [.int (iI (bB (!isEd (ar 0) u w d)))], (hM m fi ar g, z)) := by
    rw [b_X5_fastenStrap_0, e_noSide h3, bI_rB, mK, Option.bind_some, e_isEdge md.w.bd.dm h1.1 h1.2 h2.1 h2.2 h3.1 h3.2, bI_rB]
    simp only [bB_0]
    cases isEd (ar 0) u w d <;> rfl
  rw [t0, b_X5_fastenStrap_21]
  unfold egR
  cases c1 : isB d 0 1 with
  | false =>
    refine MM.t7 (c := 1) md ?_ rfl
    rw [show bB (!false) = 1 from rfl, if_neg (by decide), b_X5_fastenStrap_52, b_X5_fastenStrap_53, mK, Option.bind_some, ef1, bI_rI, if_neg (by decide)]
    rfl
  | true =>
    have b1 := isB_iff.mp c1
    rw [show bB (!true) = 0 from rfl, if_pos rfl, if_pos rfl]
    cases c2 : isEd (ar 0) u w d with
    | false =>
      refine MM.t7 (c := 2) md ?_ rfl
      rw [show bB (!false) = 1 from rfl, if_neg (by decide), b_X5_fastenStrap_52, b_X5_fastenStrap_53, mK, Option.bind_some, ef01, bI_rI, if_neg (by decide)]
      rfl
    | true =>
      have hb := isEd_b md.w.bd.dm c2 (by omega)
      rw [show bB (!true) = 0 from rfl, if_pos rfl, mK, Option.bind_some, e_mayFasten md.w.rb md.w.py.mv.2 hb.1 hb.2.1 (by omega) hb.2.2.1 hb.2.2.2.1, bI_rB, if_pos rfl]
      simp only [bB_0]
      cases cm : mayF (ar 0) u w d with
      | false =>
        refine MM.ofQ md (MQr.t7 (c := 3) (w := 0) ?_ rfl)
        rw [if_pos rfl, b_X5_fastenStrap_53, mK, Option.bind_some, ef001, bI_rI, if_neg (by decide)]
        rfl
      | true =>
        have f16 : fU fi 7 0 6 = fi 6 := fU_n (by decide)
        obtain ⟨a2, ha2⟩ : ∃ a2, a2 = aS ar 2 (remK (ar 2) (fU fi 7 0 6) (ar 0)) := ⟨_, rfl⟩
        have a20 : a2 0 = ar 0 := by rw [ha2, aS_n (by decide)]
        obtain ⟨a3, e3, s3, r3⟩ := e_fastens (G := G) (m := m) (fi := fU (fU fi 7 0) 6 (remC (fU fi 7 0 6) + 1)) (ar := a2) (g := g) (z := z) (by rw [a20]; exact md.w.rb) (by rw [a20]; exact md.w.py.mv.2) hb.1 hb.2.1 (x := u) (y := w) (d := d) (by omega)
        rw [a20] at e3 r3
        rw [if_neg (by decide), b_X5_fastenStrap_52, b_X5_fastenStrap_53, mK, Option.bind_some, ef0, bI_rI, if_pos rfl, mgR0, Option.bind_some, mK, Option.bind_some, va_rf_some, show m + 1 = m + 1 + 0 from rfl, e_remember (by decide) (by decide) rfl (by rw [f16]; exact md.c6), bV_rV, mK, Option.bind_some, ← ha2, e3, bI_rI]
        refine MM.mv md (md.w.kFas (by omega) c2 cm) rfl ?_ ?_ ?_ r3 ?_
        · exact (s3.1 7 (by decide)).trans ((fU_n (by decide)).trans fU_s)
        · have sa : Sc [6, 7, 17] [0, 2, 10, 11] fi ar (fU (fU fi 7 0) 6 (remC (fU fi 7 0 6) + 1)) a2 := by
            rw [ha2]
            exact ((Sc.refl.fU (by decide)).fU (by decide)).aS (by decide)
          exact sa.trans (s3.mono (by decide) (by decide))
        · rw [s3.1 6 (by decide), fU_s, f16]
        · rw [s3.2 2 (by decide), ha2, aS_s, f16]
theorem ef100 (hk : True) : t_Ev (t_pg G) t_hd Y_X5_fails 0 ([some (.ref m), some (.int (iI 1)), some (.int (iI 0)), some (.int (iI 0))], [], (hM m fi ar g, z)) = rI 1 (hM m (fU fi 7 1) ar g, z) := ef1
theorem m_pass (hk : kc 16 = 1) (md : Md fi ar) : MM m g z kc (t_Ev (t_pg G) t_hd Y_X5_pass 0 ([some (.ref m)], [], (hM m fi ar g, z))) (if mayS (ar 0) = true then .inr (ar 0 3 + 1) else .inl 16) (mvF (mayS (ar 0)) fi) (mvA (mayS (ar 0)) fi ar (pas (ar 0))) := by
  obtain ⟨f1, a1, e1, s1⟩ := e_mayPass (G := G) (m := m) (fi := fi) (ar := ar) (g := g) (z := z) md.w.bd.dm md.w.rb md.w.py.mv.2
  rw [b_X5_pass_0, mK, Option.bind_some, e1, bI_rB]
  simp only [bB_0]
  cases cm : mayS (ar 0) with
  | false =>
    refine MM.ofQ md (MQr.t (fi' := fU f1 7 1) (ar' := a1) (w := 0) ?_ (s1.q17.fU (by decide)) (fU_s.trans hk.symm))
    rw [if_pos rfl, b_X5_pass_13, mK, Option.bind_some, ef1, bI_rI, if_neg (by decide)]
    rfl
  | true =>
    have a10 : a1 0 = ar 0 := s1.2 0 (by decide)
    have a12 : a1 2 = ar 2 := s1.2 2 (by decide)
    have f16 : fU f1 7 0 6 = fi 6 := (fU_n (by decide)).trans (s1.1 6 (by decide))
    obtain ⟨a2, ha2⟩ : ∃ a2, a2 = aS a1 2 (remK (a1 2) (fU f1 7 0 6) (a1 0)) := ⟨_, rfl⟩
    have a20 : a2 0 = ar 0 := by rw [ha2, aS_n (by decide)]; exact a10
    obtain ⟨a3, e3, s3, r3⟩ := e_passes (G := G) (m := m) (fi := fU (fU f1 7 0) 6 (remC (fU f1 7 0 6) + 1)) (ar := a2) (g := g) (z := z)
    rw [a20] at e3 r3
    rw [if_neg (by decide), b_X5_pass_13, mK, Option.bind_some, ef0, bI_rI, if_pos rfl, mgR0, Option.bind_some, mK, Option.bind_some, va_rf_some, show m + 1 = m + 1 + 0 from rfl, e_remember (by decide) (by decide) rfl (by rw [f16]; exact md.c6), bV_rV, mK, Option.bind_some, ← ha2, e3, bI_rI]
    refine MM.mv md (md.w.kPas (mayS_3 cm)) rfl ?_ ?_ ?_ r3 ?_
    · exact (s3.1 7 (by decide)).trans ((fU_n (by decide)).trans fU_s)
    · have sa : Sc [6, 7, 17] [0, 2, 10, 11] fi ar (fU (fU f1 7 0) 6 (remC (fU f1 7 0 6) + 1)) a2 := by
        rw [ha2]
        exact (((s1.mono (by decide) (by decide)).fU (by decide)).fU (by decide)).aS (by decide)
      exact sa.trans (s3.mono (by decide) (by decide))
    · rw [s3.1 6 (by decide), fU_s, f16]
    · rw [s3.2 2 (by decide), ha2, aS_s, a12, f16, a10]
/-- a row of many copied to a row's place -/
theorem cpy_s {f f' : Nat → Int} {q j : Nat} (hj : j < 417) : va_cpy f f' q 0 417 j = f (q + j) := by
  unfold va_cpy
  rw [if_pos (by omega)]
  exact congrArg f (by omega)
theorem cpy_rs {f f' : Nat → Int} {q o : Nat} (h : RB f) (h' : RB f') : RB (va_cpy f f' q o 417) := fun j => by
  unfold va_cpy
  split
  · exact h _
  · exact h' j
theorem m_undo (hk : kc 16 = 1) (md : Md fi ar) : MM m g z kc (t_Ev (t_pg G) t_hd Y_X5_undo 0 ([some (.ref m)], [], (hM m fi ar g, z))) (if fi 6 = 0 then .inl 16 else .inr (fi 6 - 1)) (if fi 6 = 0 then fi else fU fi 6 (fi 6 - 1)) (if fi 6 = 0 then ar else aS ar 0 (sft (ar 2) (417 * (fi 6 - 1).toNat))) := by
  have c6 := md.c6
  rw [b_X5_undo_0, mgI6, Option.bind_some]
  simp (disch := omega) only [iI_inj]
  by_cases c : fi 6 = 0
  · rw [if_pos c, if_pos c, if_pos c, if_pos c]
    refine MM.t7 (c := 1) md ?_ hk.symm
    rw [b_X5_undo_13, mK, Option.bind_some, ef1, bI_rI, if_neg (by decide)]
    rfl
  · rw [if_neg c, if_neg c, if_neg c, if_neg c]
    have f6 : fU fi 7 0 6 = fi 6 := fU_n (by decide)
    have md' : Md (fU fi 6 (fi 6 - 1)) (aS ar 0 (sft (ar 2) (417 * (fi 6 - 1).toNat))) := ⟨md.kw (fi 6 - 1).toNat (by omega), md.b2, md.b3, by rw [fU_s]; omega, md.n13, md.ib, fun k hk => by rw [fU_s] at hk; exact md.kw k (by omega), md.sw, md.f5, md.o14, md.o9⟩
    have ec := e_copy (G := G) (m := m) (fi := fU (fU fi 7 0) 6 (fi 6 - 1)) (ar := ar) (g := g) (z := z) (k1 := 2) (k2 := 0) (by decide) (by decide) (z1 := (fi 6 - 1) * 417) (z2 := 0) (by omega) (by omega) (by show _ ≤ ((3336 : Nat) : Int); omega) (by decide)
    have ag : AG (fU fi 6 (fi 6 - 1)) (aS ar 0 (sft (ar 2) (417 * (fi 6 - 1).toNat))) (fU (fU fi 7 0) 6 (fi 6 - 1)) (aS ar 0 (va_cpy (ar 2) (ar 0) ((fi 6 - 1) * 417).toNat 0 417)) := ⟨fU_s.trans fU_s.symm, rfl, rfl, rfl, rfl, fun j hj => by
      rw [aS_s, aS_s, cpy_s hj]
      unfold sft
      exact congrArg (ar 2) (by omega), fun _ _ => rfl, fun _ _ => rfl, fun _ _ => rfl, fun _ _ => rfl, fun _ _ => rfl⟩
    refine ⟨fU (fU fi 7 0) 6 (fi 6 - 1), aS ar 0 (va_cpy (ar 2) (ar 0) ((fi 6 - 1) * 417).toNat 0 417), fi 6 - 1, ?_, ⟨rfl, rfl⟩, ag, md'.cg ag (by rw [aS_s]; exact cpy_rs md.b2 md.w.rb) md.b2 md.b3 md.ib⟩
    rw [b_X5_undo_13, mK, Option.bind_some, ef0, bI_rI, if_pos rfl, mgI6, Option.bind_some, f6, iI_sub, mpI6, Option.bind_some, mgR2, Option.bind_some, mgI6, Option.bind_some, fU_s, iI_mul, mgR0, Option.bind_some, va_rf_some, va_rf_some, show m + 3 = m + 1 + 2 from rfl, show m + 1 = m + 1 + 0 from rfl, ec, bV_rV, mgI6, Option.bind_some, fU_s]
    rfl
theorem mst5 {y : Int} (h0 : 0 ≤ y) (h1 : y < 2) : stI (hM m fi ar g) (.ref (m+6)) (iI y) 1 2 (iI 1) = some (hM m fi (aU ar 5 y.toNat 1) g) := by
  rw [stI_at hM_6 (by decide) h0 h1 (by decide), show t_nar 1 (iI 1) = t_nar 0 (iI 1) from rfl]
  refine congrArg some (funext fun q => ?_)
  by_cases h : q = m + 6
  · subst h
    rw [t_up_s, hM_6, aU_s, mUpd]
  · rw [t_up_n h]
    simp only [hM, if_neg h, aU, show ((0 : Nat) = 5) = False by decide, show ((1 : Nat) = 5) = False by decide, show ((2 : Nat) = 5) = False by decide, show ((3 : Nat) = 5) = False by decide, show ((4 : Nat) = 5) = False by decide, show ((8 : Nat) = 5) = False by decide, show ((9 : Nat) = 5) = False by decide, show ((10 : Nat) = 5) = False by decide, show ((11 : Nat) = 5) = False by decide, show ((12 : Nat) = 5) = False by decide, if_false]
theorem m_save (hk : kc 15 = 1) (md : Md fi ar) {k : Int} (h1 : InR k) : MM m g z kc (t_Ev (t_pg G) t_hd Y_X5_save 0 ([some (.ref m), some (.int (iI k))], [], (hM m fi ar g, z))) (if isB k 0 1 = true then .inr (ar 0 4) else .inl 15) fi (if isB k 0 1 = true then aS (aS ar 3 (savK (ar 3) k (ar 0))) 5 (fU (ar 5) k.toNat 1) else ar) := by
  rw [b_X5_save_0, e_isIn h1.1 h1.2 (by decide) (by decide) (by decide) (by decide), bI_rB]
  simp only [bB_0]
  cases c : isB k 0 1 with
  | false =>
    refine MM.t7 (c := 1) md ?_ hk.symm
    rw [if_pos rfl, b_X5_save_15, mK, Option.bind_some, ef1, bI_rI, if_neg (by decide)]
    rfl
  | true =>
    have b := isB_iff.mp c
    have ec := e_copy (G := G) (m := m) (fi := fU fi 7 0) (ar := ar) (g := g) (z := z) (k1 := 0) (k2 := 3) (by decide) (by decide) (z1 := 0) (z2 := k * 417) (by omega) (by omega) (by decide) (by show _ ≤ ((834 : Nat) : Int); omega)
    obtain ⟨k', hk'⟩ := Int.eq_ofNat_of_zero_le b.1
    have kn : k.toNat = k' := by omega
    have md' : Md fi (aS (aS ar 3 (savK (ar 3) k (ar 0))) 5 (fU (ar 5) k.toNat 1)) := by
      have A3 : aS (aS ar 3 (savK (ar 3) k (ar 0))) 5 (fU (ar 5) k.toNat 1) 3 = savK (ar 3) k (ar 0) := (aS_n (by decide)).trans aS_s
      have A5 : aS (aS ar 3 (savK (ar 3) k (ar 0))) 5 (fU (ar 5) k.toNat 1) 5 = fU (ar 5) k.toNat 1 := aS_s
      have rb : RB (savK (ar 3) k (ar 0)) := cpy_rs md.w.rb md.b3
      refine ⟨md.w, md.b2, by rw [A3]; exact rb, md.c6, md.n13, md.ib, md.kw, fun q hq e => ?_, fun q hq => ?_, md.o14, md.o9⟩
      · rw [A3]
        rw [A5] at e
        by_cases eq : q = k'
        · subst eq
          exact md.w.cgR (sft_rb rb) fun j hj => by unfold sft; rw [hk']; exact savK_s hj
        · rw [kn, fU_n eq] at e
          exact (md.sw q hq e).cgR (sft_rb rb) fun j hj => by unfold sft; rw [hk']; exact savK_n eq hj
      · rw [A5, kn]
        by_cases eq : q = k'
        · rw [eq, fU_s]; exact Or.inr rfl
        · rw [fU_n eq]; exact md.f5 q hq
    have ag : AG fi (aS (aS ar 3 (savK (ar 3) k (ar 0))) 5 (fU (ar 5) k.toNat 1)) (fU fi 7 0) (aU (aS ar 3 (va_cpy (ar 0) (ar 3) (Int.toNat 0) (k * 417).toNat 417)) 5 k.toNat 1) := ⟨rfl, rfl, rfl, rfl, rfl, fun _ _ => rfl, fun _ _ => rfl, fun _ _ => rfl, fun _ _ => rfl, fun _ _ => rfl, fun _ _ => rfl⟩
    refine ⟨fU fi 7 0, aU (aS ar 3 (va_cpy (ar 0) (ar 3) (Int.toNat 0) (k * 417).toNat 417)) 5 k.toNat 1, ar 0 4, ?_, ⟨rfl, rfl⟩, ag, md'.cg ag md.w.rb md.b2 md'.b3 md.ib⟩
    rw [if_neg (by decide), b_X5_save_15, mK, Option.bind_some, ef0, bI_rI, if_pos rfl, mgR0, Option.bind_some, mgR3, Option.bind_some, va_rf_some, va_rf_some, iI_mul, show m + 4 = m + 1 + 3 from rfl, show m + 1 = m + 1 + 0 from rfl, ec, bV_rV, mgR5, Option.bind_some, va_rf_some, mst5 b.1 (by omega), Option.bind_some, mgR0, Option.bind_some, va_rf_some, mld0 (by decide) (by decide), Option.bind_some]
    rfl
theorem m_restore (hk : kc 15 = 1 ∧ kc 16 = 2) (md : Md fi ar) {k : Int} (h1 : InR k) : MM m g z kc (t_Ev (t_pg G) t_hd Y_X5_restore 0 ([some (.ref m), some (.int (iI k)), none], [], (hM m fi ar g, z))) (if isB k 0 1 = true then (if ar 5 k.toNat = 1 then .inr (ar 3 (417 * k.toNat + 4)) else .inl 16) else .inl 15) (mvF (isB k 0 1 && decide (ar 5 k.toNat = 1)) fi) (mvA (isB k 0 1 && decide (ar 5 k.toNat = 1)) fi ar (sft (ar 3) (417 * k.toNat))) := by
  rw [b_X5_restore_0, e_isIn h1.1 h1.2 (by decide) (by decide) (by decide) (by decide), bI_rB]
  simp only [bB_0]
  cases c : isB k 0 1 with
  | false =>
    refine MM.t7 (c := 1) md ?_ hk.1.symm
    rw [if_pos rfl, b_X5_restore_14, if_neg (by decide), b_X5_restore_34, b_X5_restore_35, mK, Option.bind_some, ef1, bI_rI, if_neg (by decide)]
    rfl
  | true =>
    have b := isB_iff.mp c
    have f5 := md.f5 k.toNat (by omega)
    rw [if_neg (by decide), if_pos rfl, b_X5_restore_14, if_pos rfl, mgR5, Option.bind_some, va_rf_some, mld5 b.1 (by omega), Option.bind_some]
    simp (disch := omega) only [iI_inj]
    by_cases c5 : ar 5 k.toNat = 1
    · have wk := md.sw k.toNat (by omega) c5
      have f16 : fU fi 7 0 6 = fi 6 := fU_n (by decide)
      obtain ⟨a2, ha2⟩ : ∃ a2, a2 = aS ar 2 (remK (ar 2) (fU fi 7 0 6) (ar 0)) := ⟨_, rfl⟩
      have a20 : a2 0 = ar 0 := by rw [ha2, aS_n (by decide)]
      have a23 : a2 3 = ar 3 := by rw [ha2, aS_n (by decide)]
      have a22 : a2 2 = remK (ar 2) (fi 6) (ar 0) := by rw [ha2, aS_s, f16]
      have ec := e_copy (G := G) (m := m) (fi := fU (fU fi 7 0) 6 (remC (fU fi 7 0 6) + 1)) (ar := a2) (g := g) (z := z) (k1 := 3) (k2 := 0) (by decide) (by decide) (z1 := k * 417) (z2 := 0) (by omega) (by omega) (by show _ ≤ ((834 : Nat) : Int); omega) (by decide)
      rw [a23, a20] at ec
      have md' := md.mv wk
      have ag : AG (mvF true fi) (mvA true fi ar (sft (ar 3) (417 * k.toNat))) (fU (fU fi 7 0) 6 (remC (fU fi 7 0 6) + 1)) (aS a2 0 (va_cpy (ar 3) (ar 0) (k * 417).toNat (Int.toNat 0) 417)) := by
        show AG (fU fi 6 (remC (fi 6) + 1)) (aS (aS ar 2 (remK (ar 2) (fi 6) (ar 0))) 0 (sft (ar 3) (417 * k.toNat))) _ _
        refine ⟨by rw [fU_s, fU_s, f16], rfl, rfl, rfl, rfl, fun j hj => ?_, fun j _ => ?_, fun j _ => ?_, fun j _ => ?_, fun j _ => ?_, fun j _ => ?_⟩
        · rw [aS_s, aS_s, show Int.toNat 0 = 0 from rfl, cpy_s hj]
          unfold sft
          exact congrArg (ar 3) (by omega)
        · rw [aS_n (by decide), aS_n (by decide), aS_s, a22]
        · rw [aS_n (by decide), aS_n (by decide), aS_n (by decide), a23]
        · rw [aS_n (by decide), aS_n (by decide), aS_n (by decide), ha2, aS_n (by decide)]
        · rw [aS_n (by decide), aS_n (by decide), aS_n (by decide), ha2, aS_n (by decide)]
        · rw [aS_n (by decide), aS_n (by decide), aS_n (by decide), ha2, aS_n (by decide)]
      have rb2 := remK_rb (c := fi 6) md.b2 md.w.rb
      rw [if_neg (by omega), b_X5_restore_34, b_X5_restore_35, mK, Option.bind_some, ef0, bI_rI, if_pos rfl, if_pos c5, mgR0, Option.bind_some, mK, Option.bind_some, va_rf_some, show m + 1 = m + 1 + 0 from rfl, e_remember (by decide) (by decide) rfl (by rw [f16]; exact md.c6), bV_rV, ← ha2, mgR3, Option.bind_some, mgR0, Option.bind_some, va_rf_some, va_rf_some, iI_mul, show m + 4 = m + 1 + 3 from rfl, show m + 1 = m + 1 + 0 from rfl, ec, bV_rV, mgR0, Option.bind_some, va_rf_some, mld0 (by decide) (by decide), Option.bind_some, decide_eq_true c5]
      refine ⟨_, _, ar 3 (417 * k.toNat + 4), ?_, ⟨rfl, rfl⟩, ag, md'.cg ag (by rw [aS_s]; exact cpy_rs md.b3 md.w.rb) (by rw [aS_n (by decide), a22]; exact rb2) (by rw [aS_n (by decide), a23]; exact md.b3) (by rw [aS_n (by decide), ha2, aS_n (by decide)]; exact md.ib)⟩
      refine rI_cg ?_
      rw [aS_s, show Int.toNat 0 = 0 from rfl, cpy_s (by decide)]
      exact congrArg (ar 3) (by omega)
    · rw [if_neg c5, decide_eq_false c5]
      refine MM.ofQ md (MQr.t7 (c := 2) (w := 0) ?_ hk.2.symm)
      rw [if_pos (by omega), b_X5_restore_35, mK, Option.bind_some, ef01, bI_rI, if_neg (by decide)]
      rfl
theorem m_truncate (hk : kc 15 = 1) (md : Md fi ar) {k : Int} (h1 : InR k) : MM m g z kc (t_Ev (t_pg G) t_hd Y_X5_truncateInput 0 ([some (.ref m), some (.int (iI k))], [], (hM m fi ar g, z))) (if isB k 0 (fi 13) = true then .inr k else .inl 15) (if isB k 0 (fi 13) = true then fU fi 13 k else fi) ar := by
  have n13 := md.n13
  rw [b_X5_truncateInput_0, mgI13, Option.bind_some, e_isIn h1.1 h1.2 (by decide) (by decide) (by omega) (by omega), bI_rB]
  simp only [bB_0]
  cases c : isB k 0 (fi 13) with
  | false =>
    refine MM.t7 (c := 1) md ?_ hk.symm
    rw [if_pos rfl, mK, Option.bind_some, ef1, bI_rI, if_neg (by decide)]
    rfl
  | true =>
    have b := isB_iff.mp c
    have md' : Md (fU fi 13 k) ar := ⟨md.w, md.b2, md.b3, md.c6, by rw [fU_s]; omega, md.ib, md.kw, md.sw, md.f5, md.o14, md.o9⟩
    have ag : AG (fU fi 13 k) ar (fU (fU fi 7 0) 13 k) ar := ⟨rfl, fU_s.trans fU_s.symm, rfl, rfl, rfl, fun _ _ => rfl, fun _ _ => rfl, fun _ _ => rfl, fun _ _ => rfl, fun _ _ => rfl, fun _ _ => rfl⟩
    rw [if_neg (by decide), if_pos rfl, if_pos rfl, mK, Option.bind_some, ef0, bI_rI, if_pos rfl, mpI13, Option.bind_some]
    exact ⟨_, _, k, rfl, ⟨rfl, rfl⟩, ag, md'.cg ag md.w.rb md.b2 md.b3 md.ib⟩
end MMV
