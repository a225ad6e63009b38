/-! ===== the component: moves made ===== -/
/-- an exception without fields, made and thrown -/
abbrev tTh (k : Nat) (hs : tHS) : Option tRS := some (.inr hs.2.1, t_al hs (true, k, .inl []) 6)
section MV
variable {G : tG} {D M : Nat → Prop} {hs : tHS} {a np : Nat} {s : tRow}
theorem c_check {b : Bool} {v : Option Value} : t_Ev (t_pg G) t_hd Y_X3_check 0 ([v, some (.int (iI (bB b)))], [], hs) = if b = true then rV hs else tTh 14 hs := by
  rw [b_X3_check_0]
  cases b with
  | true => rfl
  | false =>
    have e : (t_al hs (true, 14, .inl []) 6).1 hs.2.1 = some (true, 14, .inl []) := t_up_s
    rw [if_pos (by decide), b_X9_init_0]
    simp only [t_kM, e, if_true, Option.bind_some, rV_of, bV_rV, t_obj]
    (try rfl)
theorem c_endTurn (H : GR G D M hs.1 a s np) (hF : Fi hs) (hnp : np ≤ 2) {w : Int} : ∃ hs', t_Ev (t_pg G) t_hd Y_X3_endTurn 0 ([some (.ref a), some (.int (iI w))], [], hs) = rV hs' ∧ GR G D M hs'.1 a (fU (fU s 3 w) 2 (1 - s 2)) np ∧ Mx M 0 0 hs hs' := by
  obtain ⟨fl, e1, e2, e3, e4⟩ := H.wTurn hnp (v := w) (t := 1 - s 2)
  have i9 := H.i9
  have f9 : gfI (t_up hs.1 a (true, 2, .inl (fl.set 10 (.int (iI w))))) (.ref a) 2 9 = some (iI (s 2)) := by
    refine gfI_at t_up_s ?_
    rw [List.getElem?_set_ne (by decide)]
    simp only [gfI, e1, if_true] at i9
    split at i9
    · rename_i x hx
      cases i9
      exact hx
    · cases i9
  refine ⟨_, ?_, e4, Mx.up hF e1 e3⟩
  rw [b_X3_endTurn_0, pf_at e1 (by omega)]
  simp only [Option.bind_some]
  rw [f9]
  simp only [Option.bind_some, iI_sub]
  rw [pf_at t_up_s (by rw [List.length_set]; omega)]
  simp only [Option.bind_some, t_up_up]
  (try rfl)
theorem c_block (H : GR G D M hs.1 a s np) (hF : Fi hs) (hnp : np ≤ 2) {x y : Int} (h1 : 0 ≤ x ∧ x ≤ 7) (h2 : 0 ≤ y ∧ y ≤ 7) : ∃ hs', t_Ev (t_pg G) t_hd Y_X3_block 0 ([some (.ref a), some (.int (iI x)), some (.int (iI y))], [], hs) = rV hs' ∧ GR G D M hs'.1 a (fU s (33 + (8 * y + x)).toNat 1) np ∧ Mx M 0 0 hs hs' := by
  obtain ⟨ca, fc, e1, e2, e3, e4⟩ := H.wCell hnp (j := (y * 8 + x).toNat) (by omega) (v := 1)
  rw [show 33 + (y * 8 + x).toNat = (33 + (8 * y + x)).toNat by omega] at e4
  refine ⟨_, ?_, e4, Mx.up hF e2 e3⟩
  rw [b_X3_block_0]
  simp only [Option.bind_some, va_rf_some, va_rf_none, bI_rI, bI_rB, bV_rV, bB_0, bB_1, iI_add, iI_sub, iI_mul, iI_neg, rI_of, rV_of, Int.reduceToNat, Int.neg_neg, e1, H.k, c_indexOf]
  rw [stI_at e2 (by decide) (by omega) (by omega) (by decide)]
  rfl
theorem c_setStrap (H : GR G D M hs.1 a s np) (hF : Fi hs) (hnp : np ≤ 2) {x y d : Int} (h1 : 0 ≤ x ∧ x ≤ 7) (h2 : 0 ≤ y ∧ y ≤ 7) (h3 : 0 ≤ d ∧ d ≤ 1) : ∃ hs', t_Ev (t_pg G) t_hd Y_X3_setStrap 0 ([some (.ref a), some (.int (iI x)), some (.int (iI y)), some (.int (iI d)), some (.int (iI 1))], [], hs) = rV hs' ∧ GR G D M hs'.1 a (fU s (edI x y d).toNat 1) np ∧ Mx M 0 0 hs hs' := by
  obtain ⟨sa, fs, e1, e2, e3, e4⟩ := H.wStrap hnp (j := (d * 64 + (y * 8 + x)).toNat) (by omega)
  rw [show 97 + (d * 64 + (y * 8 + x)).toNat = (edI x y d).toNat by unfold edI; split <;> omega] at e4
  refine ⟨_, ?_, e4, Mx.up hF e2 e3⟩
  rw [b_X3_setStrap_0]
  simp only [Option.bind_some, va_rf_some, va_rf_none, bI_rI, bI_rB, bV_rV, bB_0, bB_1, iI_add, iI_sub, iI_mul, iI_neg, rI_of, rV_of, Int.reduceToNat, Int.neg_neg, e1, H.k, c_edge H]
  rw [stI_at e2 (by decide) (by omega) (by omega) (by decide)]
  rfl
theorem c_fasten (H : GR G D M hs.1 a s 2) (hF : Fi hs) (hD : Dm s) (hB : RB s) (hT : s 2 ≤ 1) {x y d : Int} (h3 : 0 ≤ d ∧ d ≤ 1) (hE : isEd s x y d = true) :
    if mayF s x y d = true then ∃ hs', t_Ev (t_pg G) t_hd Y_X3_fasten 0 ([some (.ref a), some (.int (iI x)), some (.int (iI y)), some (.int (iI d)), none], [], hs) = rI (ofS s (s 2) 1 - 1) hs' ∧ GR G D M hs'.1 a (fas s x y d) 2 ∧ Mx M 0 0 hs hs'
    else t_Ev (t_pg G) t_hd Y_X3_fasten 0 ([some (.ref a), some (.int (iI x)), some (.int (iI y)), some (.int (iI d)), none], [], hs) = tTh 14 hs := by
  have ht := (hB 2).1
  have hd := hD.1
  have hd2 := hD.2
  have he := hE
  rw [isEd_bey h3.1 h3.2, Bool.and_eq_true, inB_iff, inB_iff] at he
  have hcf := c_canFasten H hB hT (x := x) (y := y) (d := d) (by omega) (by omega) h3 (by omega) (by omega)
  cases hm : mayF s x y d with
  | false =>
    rw [if_neg (by decide), b_X3_fasten_0]
    simp only [Option.bind_some, va_rf_some, va_rf_none, bI_rI, bI_rB, bV_rV, bB_0, bB_1, iI_add, iI_sub, iI_mul, iI_neg, rI_of, rV_of, Int.reduceToNat, Int.neg_neg, H.k]
    rw [bB_ex hcf, hm]
    simp only [Option.bind_some, va_rf_some, va_rf_none, bI_rI, bI_rB, bV_rV, bB_0, bB_1, iI_add, iI_sub, iI_mul, iI_neg, rI_of, rV_of, Int.reduceToNat, Int.neg_neg, H.k, c_check]
    (try rfl)
  | true =>
    rw [if_pos rfl]
    obtain ⟨hs1, a1, H1, m1⟩ := c_setStrap H hF (Nat.le_refl 2) (x := x) (y := y) (d := d) (by omega) (by omega) h3
    have hei : 97 ≤ (edI x y d).toNat ∧ (edI x y d).toNat < 417 := by unfold edI; split <;> omega
    have r2 : fU s (edI x y d).toNat 1 2 = s 2 := fU_n (by omega)
    obtain ⟨pa, b, fl, g1, g2, g3, g4, g5, g6, g7, -⟩ := H1.wPl (Nat.le_refl 2) (p := s 2) ht (by omega)
    have ho : ofS (fU s (edI x y d).toNat 1) (s 2) 1 = ofS s (s 2) 1 := ofS_fU (by unfold plI; omega)
    rw [ho] at g4
    have H2 := g7 (ofS s (s 2) 1 - 1)
    have hne : a ≠ b := by
      obtain ⟨sv, ca, sa, pa, qa, fc, fs, fp, fq, pl, su, ⟨mm, e1⟩, -⟩ := H1
      exact ne_tg e1 g3 (by show ((2:Nat), 0) ≠ (3, 0); decide)
    have hne2 : pa ≠ b := by
      unfold ldR at g2
      dsimp only at g2
      split at g2
      · rename_i hh
        exact ne_tg hh g3 (fun w => by have := congrArg Prod.snd w; cases this)
      · cases g2
    have g3' : (t_up hs1.1 b (true, 3, .inl (fl.set 2 (.int (iI (ofS s (s 2) 1 - 1)))))) b = some (true, 3, .inl (fl.set 2 (.int (iI (ofS s (s 2) 1 - 1))))) := t_up_s
    obtain ⟨hs3, a3, H3, m3⟩ := c_endTurn (hs := (t_up hs1.1 b (true, 3, .inl (fl.set 2 (.int (iI (ofS s (s 2) 1 - 1))))), hs1.2)) H2 (Mx.up (M := M) (c := 0) (d := 0) m1.2.2.2 g3 g6).2.2.2 (Nat.le_refl 2) (w := 0)
    refine ⟨hs3, ?_, ?_, (m1.trans ((Mx.up (c := 0) (d := 0) m1.2.2.2 g3 g6).trans m3)).le (by decide) (by decide)⟩
    · rw [b_X3_fasten_0]
      simp only [Option.bind_some, va_rf_some, va_rf_none, bI_rI, bI_rB, bV_rV, bB_0, bB_1, iI_add, iI_sub, iI_mul, iI_neg, rI_of, rV_of, Int.reduceToNat, Int.neg_neg, H.k]
      rw [bB_ex hcf, hm]
      simp only [Option.bind_some, va_rf_some, va_rf_none, bI_rI, bI_rB, bV_rV, bB_0, bB_1, iI_add, iI_sub, iI_mul, iI_neg, rI_of, rV_of, Int.reduceToNat, Int.neg_neg, H.k, c_check, if_true]
      rw [bV_ex a1]
      simp only [g1, H1.i9, r2, Option.bind_some, va_rf_some, g2]
      rw [gfI_at g3 g4]
      simp only [Option.bind_some, iI_sub]
      rw [pf_at g3 (fl_at g4)]
      simp only [Option.bind_some, gfR_cg (t_up_n hne), gfI_cg (t_up_n hne), kN_cg (t_up_n hne), g1, H1.i9, H1.k, r2]
      have g2' : ldR (t_up hs1.1 b (true, 3, .inl (fl.set 2 (.int (iI (ofS s (s 2) 1 - 1)))))) (.ref pa) (iI (s 2)) = some (some b) := by
        unfold ldR at g2 ⊢
        dsimp only at g2 ⊢
        rw [t_up_n hne2]
        exact g2
      rw [va_rf_some, g2']
      simp only [Option.bind_some, va_rf_some]
      rw [gfI_at g3' (List.getElem?_set_self (fl_at g4))]
      simp only [Option.bind_some]
      rw [bV_ex a3]
      rfl
    · have e : fU (fU (fU s (edI x y d).toNat 1) (plI (s 2) 1).toNat (ofS s (s 2) 1 - 1)) 2 = fU (fU (fU s (edI x y d).toNat 1) (plI (s 2) 1).toNat (ofS s (s 2) 1 - 1)) 2 := rfl
      have r2' : fU (fU s (edI x y d).toNat 1) (plI (s 2) 1).toNat (ofS s (s 2) 1 - 1) 2 = s 2 := (fU_n (by unfold plI; omega)).trans r2
      rw [r2', fU_comm (by decide)] at H3
      exact H3
theorem c_skip (H : GR G D M hs.1 a s 2) (C : CH G D hs.1) (hF : Fi hs) (hD : Dm s) (hB : RB s) (hT : s 2 ≤ 1) :
    if mayS s = true then ∃ hs', t_Ev (t_pg G) t_hd Y_X3_skip 0 ([some (.ref a)], [], hs) = rI (s 3 + 1) hs' ∧ GR G D M hs'.1 a (pas s) 2 ∧ Mx M 4 8 hs hs'
    else ∃ hs', t_Ev (t_pg G) t_hd Y_X3_skip 0 ([some (.ref a)], [], hs) = tTh 14 hs' ∧ Ex 4 8 hs hs' := by
  have ht := (hB 2).1
  have hm := movs_b hD (p := s 2)
  have t23 : ∀ h : tHS, t_kN h.1 (.ref a) 2 = some a → t_Ev (t_pg G) t_hd Y_X3_skip 23 ([some (.ref a)], [.ref a], h) = tTh 14 h := fun h hk => by
    rw [b_X3_skip_23, hk]
    simp only [Option.bind_some]
    rw [show iI 0 = iI (bB false) from rfl, c_check]
    rfl
  cases hov : ovr s with
  | true =>
    rw [if_neg (by unfold mayS; rw [hov]; simp)]
    refine ⟨hs, ?_, Mx.refl hF⟩
    rw [b_X3_skip_0]
    simp only [Option.bind_some, va_rf_some, va_rf_none, bI_rI, bI_rB, bV_rV, bB_0, bB_1, iI_add, iI_sub, iI_mul, iI_neg, rI_of, rV_of, Int.reduceToNat, Int.neg_neg, H.k, c_isFinished H hB, hov, Bool.true_eq_false, if_false]
    exact t23 hs H.k
  | false =>
    obtain ⟨hs1, e1, x1⟩ := c_mobilityOf hF H C hD hB ht hT
    have H1 := H.kp (Kp.ex hF x1)
    by_cases c : movs s (s 2) = 0
    · rw [if_pos (by unfold mayS; rw [hov]; simp [c])]
      obtain ⟨hs3, a3, H3, m3⟩ := c_endTurn H1 x1.fi (Nat.le_refl 2) (w := s 3 + 1)
      refine ⟨hs3, ?_, H3, ((x1.mono (fun _ h => h.elim) (Nat.le_refl _) (Nat.le_refl _)).trans m3)⟩
      rw [b_X3_skip_0]
      simp only [Option.bind_some, va_rf_some, va_rf_none, bI_rI, bI_rB, bV_rV, bB_0, bB_1, iI_add, iI_sub, iI_mul, iI_neg, rI_of, rV_of, Int.reduceToNat, Int.neg_neg, H.k, c_isFinished H hB, hov, if_true, H.i9]
      rw [bI_ex e1, c, if_pos rfl]
      simp only [H1.k, Option.bind_some]
      rw [show iI 1 = iI (bB true) from rfl, c_check, if_pos rfl]
      simp only [bV_rV, H1.i10, H1.k, Option.bind_some]
      rw [show iI (bB true) = iI 1 from rfl, iI_add, bV_ex a3, H3.i10]
      simp (disch := decide) only [Option.bind_some, fU_n, fU_s]
      (try rfl)
    · rw [if_neg (by unfold mayS; rw [hov]; simp [c])]
      refine ⟨hs1, ?_, x1⟩
      rw [b_X3_skip_0]
      simp only [Option.bind_some, va_rf_some, va_rf_none, bI_rI, bI_rB, bV_rV, bB_0, bB_1, iI_add, iI_sub, iI_mul, iI_neg, rI_of, rV_of, Int.reduceToNat, Int.neg_neg, H.k, c_isFinished H hB, hov, if_true, H.i9]
      rw [bI_ex e1, if_neg (by rw [iI_inj (by omega) (by omega) (by omega) (by omega)]; exact c)]
      exact t23 hs1 H1.k
end MV
