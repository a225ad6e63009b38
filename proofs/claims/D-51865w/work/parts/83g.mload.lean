/-! ===== the model loads a text ===== -/
/-- empty cells -/
def emA (s : tRow) : Int := sm (fun y => emi s y) (s 1).toNat
theorem cmdsS_c {inp : Nat → Int} {n : Nat} : ∀ {f : Nat} {s : tRow} {p : Nat} {c : Int} {a : tRow × Int}, cmdsS inp n f s p c = .inr a → c ≤ a.2 ∧ a.2 ≤ c + f := by
  intro f
  induction f with
  | zero =>
    intro s p c a h
    rw [cmdsS] at h
    injection h with h
    rw [← h]
    try dsimp only
    omega
  | succ f ih =>
    intro s p c a h
    rw [cmdsS] at h
    split at h
    · injection h with h
      rw [← h]
      try dsimp only
      omega
    · cases hc : cmdS inp n s p with
      | inl e => rw [hc] at h; cases h
      | inr q =>
        rw [hc] at h
        have := ih (show cmdsS inp n f q.1 q.2 (c + 1) = .inr a from h)
        omega
section ML
variable {G : tG} {m : Nat} {fi : Nat → Int} {ar : Nat → Nat → Int} {g : tAH} {z : Nat × Nat} {D : Nat → Prop}
theorem e_allEmpty (hD : Dm (ar 0)) (hB : RB (ar 0)) : t_Ev (t_pg G) t_hd Y_X5_allEmpty 0 ([some (.ref m), none, none], [], (hM m fi ar g, z)) = rI (emA (ar 0)) (hM m fi ar g, z) := by
  have d1 := hD.2
  have hn := tn_of d1.1
  rw [b_X5_allEmpty_0]
  have lo : t_Ev (t_pg G) t_hd Y_X5_allEmpty 4 ([some (.ref m), some (.int (iI 0)), some (.int (iI 0))], [], (hM m fi ar g, z)) = t_Ev (t_pg G) t_hd Y_X5_allEmpty 4 ([some (.ref m), some (.int (iI (sm (fun y => emi (ar 0) y) (ar 0 1).toNat))), some (.int (iI (((ar 0 1).toNat : Nat) : Int)))], [], (hM m fi ar g, z)) := lp_up (N := (ar 0 1).toNat) (F := fun k => t_Ev (t_pg G) t_hd Y_X5_allEmpty 4 ([some (.ref m), some (.int (iI (sm (fun y => emi (ar 0) y) k))), some (.int (iI (k : Int)))], [], (hM m fi ar g, z))) fun k hk => by
    rw [b_X5_allEmpty_4]
    simp (disch := omega) only [mK, mgI6, mgI7, mgI13, mgI14, mgI15, mgI16, mgI17, mgI18, mgI19, mgI20, mgI21, mgI22, mgI23, mgI24, mgI25, mgI26, mgI27, mgR0, mgR1, mgR2, mgR3, mgR4, mgR5, mgR8, mgR9, mgR10, mgR11, mgR12, Option.bind_some, va_rf_some, va_rf_none, bI_rI, bI_rB, bV_rV, bB_0, bB_1, iI_add, iI_sub, iI_mul, iI_neg, rI_of, rV_of, Int.reduceToNat, Int.neg_neg, mld0, iI_lt]
    rw [if_pos (by omega), e_emptyIn hD hB (by omega) (by omega), bI_rI]
    simp only [Option.bind_some, va_rf_some, va_rf_none, bI_rI, bI_rB, bV_rV, bB_0, bB_1, iI_add, iI_sub, iI_mul, iI_neg, rI_of, rV_of, Int.reduceToNat, Int.neg_neg]
    (try rfl)
  rw [lo, b_X5_allEmpty_4]
  simp (disch := omega) only [mK, mgI6, mgI7, mgI13, mgI14, mgI15, mgI16, mgI17, mgI18, mgI19, mgI20, mgI21, mgI22, mgI23, mgI24, mgI25, mgI26, mgI27, mgR0, mgR1, mgR2, mgR3, mgR4, mgR5, mgR8, mgR9, mgR10, mgR11, mgR12, Option.bind_some, va_rf_some, va_rf_none, bI_rI, bI_rB, bV_rV, bB_0, bB_1, iI_add, iI_sub, iI_mul, iI_neg, rI_of, rV_of, Int.reduceToNat, Int.neg_neg, mld0, iI_lt]
  rw [if_neg (by omega)]
  rfl
/-- the head -/
theorem e_head (W : Wds G m D g) {n : Nat} (k : Pk fi ar n 0) {b : Tk fi ar n 0} : ∃ fi' ar', t_Ev (t_pg G) t_hd Y_X5_load 42 ([some (.ref m), some (.int (iI 417))], [.int (iI (bB (!wrd (ar 8) n 0 wTrunk))), (.ref m)], (hM m fi ar g, z)) = t_Ev (t_pg G) t_hd Y_X5_load 80 ([some (.ref m), some (.int (iI 417))], [], (hM m fi' ar' g, z)) ∧ Sc PI PJ fi ar fi' ar' ∧ Res (headS (ar 8) n (ar 0)) fi' ar' n := by
  have bad : ∀ (f : Nat → Int) (c : Int) (a : Nat → Nat → Int) (v : Int), t_Ev (t_pg G) t_hd Y_X5_semicolon 0 ([some (.ref m)], [], (hM m (Wr f c) a g, z)) = rV (hM m (Wr f c) a g, z) := fun f c a v => e_semicolon_w Wr_22
  unfold headS
  rw [b_X5_load_42]
  cases hw : wrd (ar 8) n 0 wTrunk with
  | false =>
    rw [ckS_nt, show bB (!false) = 1 from rfl]
    simp only [mK, mgI6, mgI7, mgI13, mgI14, mgI15, mgI16, mgI17, mgI18, mgI19, mgI20, mgI21, mgI22, mgI23, mgI24, mgI25, mgI26, mgI27, mgR0, mgR1, mgR2, mgR3, mgR4, mgR5, mgR8, mgR9, mgR10, mgR11, mgR12, Option.bind_some, va_rf_some, va_rf_none, bI_rI, bI_rB, bV_rV, bB_0, bB_1, iI_add, iI_sub, iI_mul, iI_neg, rI_of, rV_of, Int.reduceToNat, Int.neg_neg, e_wrong_t k.h22, e_go_w Wr_22, e_number_w Wr_22]
    simp (disch := omega) only [mK, mgI6, mgI7, mgI13, mgI14, mgI15, mgI16, mgI17, mgI18, mgI19, mgI20, mgI21, mgI22, mgI23, mgI24, mgI25, mgI26, mgI27, mgR0, mgR1, mgR2, mgR3, mgR4, mgR5, mgR8, mgR9, mgR10, mgR11, mgR12, Option.bind_some, va_rf_some, va_rf_none, bI_rI, bI_rB, bV_rV, bB_0, bB_1, iI_add, iI_sub, iI_mul, iI_neg, rI_of, rV_of, Int.reduceToNat, Int.neg_neg, mst0, e_number_w Wr_22, e_semicolon_w Wr_22]
    exact ⟨_, _, rfl, (Sc.pw Sc.refl |>.aU (by decide)).aU (by decide), Wr_22, Wr_15, Wr_16.trans k.mt.2.1, by rw [aU_s, aU_s]; exact (k.hb.set (by decide)).set (by decide)⟩
  | true =>
    rw [ckS_nf, show bB (!true) = 0 from rfl]
    obtain ⟨f1, e1, s1, k1⟩ := e_go (G := G) (m := m) (g := g) (z := z) k
    simp only [mK, mgI6, mgI7, mgI13, mgI14, mgI15, mgI16, mgI17, mgI18, mgI19, mgI20, mgI21, mgI22, mgI23, mgI24, mgI25, mgI26, mgI27, mgR0, mgR1, mgR2, mgR3, mgR4, mgR5, mgR8, mgR9, mgR10, mgR11, mgR12, Option.bind_some, va_rf_some, va_rf_none, bI_rI, bI_rB, bV_rV, bB_0, bB_1, iI_add, iI_sub, iI_mul, iI_neg, rI_of, rV_of, Int.reduceToNat, Int.neg_neg, e_wrong_f]
    rw [e1, bV_rV]
    simp only [mK, mgI6, mgI7, mgI13, mgI14, mgI15, mgI16, mgI17, mgI18, mgI19, mgI20, mgI21, mgI22, mgI23, mgI24, mgI25, mgI26, mgI27, mgR0, mgR1, mgR2, mgR3, mgR4, mgR5, mgR8, mgR9, mgR10, mgR11, mgR12, Option.bind_some, va_rf_some, va_rf_none, bI_rI, bI_rB, bV_rV, bB_0, bB_1, iI_add, iI_sub, iI_mul, iI_neg, rI_of, rV_of, Int.reduceToNat, Int.neg_neg]
    obtain ⟨y2, n2⟩ := e_number (G := G) (m := m) (g := g) (z := z) k1 (lo := 3) (hi := 8) (by decide) (by decide)
    by_cases c2 : hC (ar 8) n 3 8 (tkT (ar 8) n 0) = 0
    case neg =>
      rw [nuS_er c2, n2 c2, bI_rI]
      simp (disch := decide) only [mK, mgI6, mgI7, mgI13, mgI14, mgI15, mgI16, mgI17, mgI18, mgI19, mgI20, mgI21, mgI22, mgI23, mgI24, mgI25, mgI26, mgI27, mgR0, mgR1, mgR2, mgR3, mgR4, mgR5, mgR8, mgR9, mgR10, mgR11, mgR12, Option.bind_some, va_rf_some, va_rf_none, bI_rI, bI_rB, bV_rV, bB_0, bB_1, iI_add, iI_sub, iI_mul, iI_neg, rI_of, rV_of, Int.reduceToNat, Int.neg_neg, mst0, e_number_w Wr_22, e_semicolon_w Wr_22]
      exact ⟨_, _, rfl, (s1.pi.pw.aU (by decide)).aU (by decide), Wr_22, Wr_15, Wr_16.trans k1.mt.2.1, by rw [aU_s, aU_s]; exact (k1.hb.set (by decide)).set (by decide)⟩
    obtain ⟨f2, e2, s2, k2⟩ := y2 c2
    have h2 := hC_ok c2
    have v2 : 0 ≤ tkV (ar 8) n (tkT (ar 8) n 0) ∧ tkV (ar 8) n (tkT (ar 8) n 0) ≤ 1000000 := ⟨Int.le_trans (by decide) h2.2.1, Int.le_trans h2.2.2 (by decide)⟩
    rw [nuS_ok c2, e2, bI_rI]
    simp (disch := decide) only [mK, mgI6, mgI7, mgI13, mgI14, mgI15, mgI16, mgI17, mgI18, mgI19, mgI20, mgI21, mgI22, mgI23, mgI24, mgI25, mgI26, mgI27, mgR0, mgR1, mgR2, mgR3, mgR4, mgR5, mgR8, mgR9, mgR10, mgR11, mgR12, Option.bind_some, va_rf_some, va_rf_none, bI_rI, bI_rB, bV_rV, bB_0, bB_1, iI_add, iI_sub, iI_mul, iI_neg, rI_of, rV_of, Int.reduceToNat, Int.neg_neg, mst0]
    have k2' : Pk f2 (aU ar 0 0 (tkV (ar 8) n (tkT (ar 8) n 0))) n (tkT (ar 8) n (tkT (ar 8) n 0)) := k2.cg (I := []) (A := [0]) (Sc.refl.aU (by decide)) (fun _ _ h => nomatch h) (by decide) (by rw [aU_s]; exact k2.hb.set v2)
    have h8 : aU ar 0 0 (tkV (ar 8) n (tkT (ar 8) n 0)) 8 = ar 8 := aU_n (by decide)
    obtain ⟨y3, n3⟩ := e_number (G := G) (m := m) (g := g) (z := z) k2' (lo := 3) (hi := 8) (by decide) (by decide)
    rw [h8] at y3 n3
    by_cases c3 : hC (ar 8) n 3 8 (tkT (ar 8) n (tkT (ar 8) n 0)) = 0
    case neg =>
      rw [nuS_er c3, n3 c3, bI_rI]
      simp (disch := decide) only [mK, mgI6, mgI7, mgI13, mgI14, mgI15, mgI16, mgI17, mgI18, mgI19, mgI20, mgI21, mgI22, mgI23, mgI24, mgI25, mgI26, mgI27, mgR0, mgR1, mgR2, mgR3, mgR4, mgR5, mgR8, mgR9, mgR10, mgR11, mgR12, Option.bind_some, va_rf_some, va_rf_none, bI_rI, bI_rB, bV_rV, bB_0, bB_1, iI_add, iI_sub, iI_mul, iI_neg, rI_of, rV_of, Int.reduceToNat, Int.neg_neg, mst0, e_semicolon_w Wr_22]
      exact ⟨_, _, rfl, ((s1.pi.trans s2.pi).aU (by decide)).pw.aU (by decide), Wr_22, Wr_15, Wr_16.trans k2.mt.2.1, by rw [aU_s, aU_s]; exact (k2.hb.set v2).set (by decide)⟩
    obtain ⟨f3, e3, s3, k3⟩ := y3 c3
    have h3 := hC_ok c3
    have v3 : 0 ≤ tkV (ar 8) n (tkT (ar 8) n (tkT (ar 8) n 0)) ∧ tkV (ar 8) n (tkT (ar 8) n (tkT (ar 8) n 0)) ≤ 1000000 := ⟨Int.le_trans (by decide) h3.2.1, Int.le_trans h3.2.2 (by decide)⟩
    rw [nuS_ok c3, e3, bI_rI]
    simp (disch := decide) only [mK, mgI6, mgI7, mgI13, mgI14, mgI15, mgI16, mgI17, mgI18, mgI19, mgI20, mgI21, mgI22, mgI23, mgI24, mgI25, mgI26, mgI27, mgR0, mgR1, mgR2, mgR3, mgR4, mgR5, mgR8, mgR9, mgR10, mgR11, mgR12, Option.bind_some, va_rf_some, va_rf_none, bI_rI, bI_rB, bV_rV, bB_0, bB_1, iI_add, iI_sub, iI_mul, iI_neg, rI_of, rV_of, Int.reduceToNat, Int.neg_neg, mst0]
    have k3' : Pk f3 (aU (aU ar 0 0 (tkV (ar 8) n (tkT (ar 8) n 0))) 0 1 (tkV (ar 8) n (tkT (ar 8) n (tkT (ar 8) n 0)))) n (tkT (ar 8) n (tkT (ar 8) n (tkT (ar 8) n 0))) := k3.cg (I := []) (A := [0]) (Sc.refl.aU (by decide)) (fun _ _ h => nomatch h) (by decide) (by rw [aU_s]; exact k3.hb.set v3)
    have h8' : aU (aU ar 0 0 (tkV (ar 8) n (tkT (ar 8) n 0))) 0 1 (tkV (ar 8) n (tkT (ar 8) n (tkT (ar 8) n 0))) 8 = ar 8 := (aU_n (by decide)).trans h8
    obtain ⟨y4, n4⟩ := e_semicolon (G := G) (m := m) (g := g) (z := z) k3'
    rw [h8'] at y4 n4
    unfold endS
    have sc := ((((s1.pi.trans s2.pi).trans (Sc.aU (k := 0) (q := 0) (v := tkV (ar 8) n (tkT (ar 8) n 0)) Sc.refl (by decide))).trans s3.pi).aU (k := 0) (q := 1) (v := tkV (ar 8) n (tkT (ar 8) n (tkT (ar 8) n 0))) (by decide))
    by_cases c4 : tkK (ar 8) n (tkT (ar 8) n (tkT (ar 8) n (tkT (ar 8) n 0))) = 3
    · obtain ⟨f4, e4, s4, k4⟩ := y4 c4
      rw [e4, bV_rV, ckS_f (by rw [decide_eq_true c4]; rfl)]
      exact ⟨_, _, rfl, sc.trans s4.pi, Res.inr (by rw [aU_s, aU_s]) k4⟩
    · rw [n4 c4, bV_rV, ckS_t (by rw [decide_eq_false c4]; rfl)]
      refine ⟨_, _, rfl, sc.pw, Wr_22, Wr_15, Wr_16.trans ?_, k3'.hb⟩
      rw [k3'.mt.2.1, h8']
theorem e_blocks (W : Wds G m D g) {n : Nat} : ∀ (f : Nat) {fi : Nat → Int} {ar : Nat → Nat → Int} {p : Nat}, n + 1 ≤ p + f → Pk fi ar n p → W0 (ar 0) → ∃ fi' ar', t_Ev (t_pg G) t_hd Y_X5_load 80 ([some (.ref m), some (.int (iI 417))], [], (hM m fi ar g, z)) = t_Ev (t_pg G) t_hd Y_X5_load 104 ([some (.ref m), some (.int (iI 417))], [], (hM m fi' ar' g, z)) ∧ Sc PI PJ fi ar fi' ar' ∧ Res (blocksS (ar 8) n f (ar 0) p) fi' ar' n ∧ ∀ s' q, blocksS (ar 8) n f (ar 0) p = .inr (s', q) → W0 s' := by
  intro f
  induction f with
  | zero => intro fi ar p hf k; have := k.hp; omega
  | succ f ih =>
    intro fi ar p hf k w
    have hp := k.hp
    rw [b_X5_load_80, blocksS]
    simp only [mK, mgI6, mgI7, mgI13, mgI14, mgI15, mgI16, mgI17, mgI18, mgI19, mgI20, mgI21, mgI22, mgI23, mgI24, mgI25, mgI26, mgI27, mgR0, mgR1, mgR2, mgR3, mgR4, mgR5, mgR8, mgR9, mgR10, mgR11, mgR12, Option.bind_some, va_rf_some, va_rf_none, bI_rI, bI_rB, bV_rV, bB_0, bB_1, iI_add, iI_sub, iI_mul, iI_neg, rI_of, rV_of, Int.reduceToNat, Int.neg_neg, k.h22, if_true, e_isW W.ot W.block (by decide) k.tk, bI_rB, bB_0]
    cases c0 : wrd (ar 8) n p wBlock with
    | false =>
      rw [if_pos rfl, if_neg (by decide)]
      exact ⟨fi, ar, rfl, Sc.refl, Res.inr rfl k, fun s' q h => by injection h with h; injection h with h1 h2; rw [← h1]; exact w⟩
    | true =>
      rw [if_neg (by decide), if_pos rfl]
      obtain ⟨f1, a1, e1, s1, r1⟩ := e_blockTold (G := G) (m := m) (g := g) (z := z) w.dm w.rb k
      rw [e1, bV_rV]
      have e8 : a1 8 = ar 8 := s1.2 8 (by decide)
      cases hc : blockS (ar 8) n (ar 0) p with
      | inl e =>
        rw [hc] at r1
        refine ⟨f1, a1, ?_, s1, r1, fun s' q h => by cases h⟩
        rw [b_X5_load_80]
        simp only [mK, mgI6, mgI7, mgI13, mgI14, mgI15, mgI16, mgI17, mgI18, mgI19, mgI20, mgI21, mgI22, mgI23, mgI24, mgI25, mgI26, mgI27, mgR0, mgR1, mgR2, mgR3, mgR4, mgR5, mgR8, mgR9, mgR10, mgR11, mgR12, Option.bind_some, va_rf_some, va_rf_none, bI_rI, bI_rB, bV_rV, bB_0, bB_1, iI_add, iI_sub, iI_mul, iI_neg, rI_of, rV_of, Int.reduceToNat, Int.neg_neg, r1.1]
        rw [if_neg (by decide)]
      | inr q =>
        obtain ⟨s', q⟩ := q
        rw [hc] at r1
        have ok := blockS_ok k.hp (by rw [wrd_1 c0]; decide) w hc
        obtain ⟨f2, a2, e2, s2, r2, w2⟩ := ih (fi := f1) (ar := a1) (p := q) (by omega) r1.2 (by rw [r1.1]; exact ok.1)
        rw [e8, r1.1] at r2 w2
        exact ⟨f2, a2, e2, s1.trans s2, r2, w2⟩
theorem e_edges (W : Wds G m D g) {n : Nat} : ∀ (f : Nat) {fi : Nat → Int} {ar : Nat → Nat → Int} {p : Nat}, n + 1 ≤ p + f → Pk fi ar n p → W0 (ar 0) → ∃ fi' ar', t_Ev (t_pg G) t_hd Y_X5_load 104 ([some (.ref m), some (.int (iI 417))], [], (hM m fi ar g, z)) = t_Ev (t_pg G) t_hd Y_X5_load 130 ([some (.ref m), some (.int (iI 0))], [], (hM m fi' ar' g, z)) ∧ Sc PI PJ fi ar fi' ar' ∧ Res (edgesS (ar 8) n f (ar 0) p) fi' ar' n ∧ ∀ s' q, edgesS (ar 8) n f (ar 0) p = .inr (s', q) → W0 s' := by
  intro f
  induction f with
  | zero => intro fi ar p hf k; have := k.hp; omega
  | succ f ih =>
    intro fi ar p hf k w
    have hp := k.hp
    rw [b_X5_load_104, edgesS]
    simp only [mK, mgI6, mgI7, mgI13, mgI14, mgI15, mgI16, mgI17, mgI18, mgI19, mgI20, mgI21, mgI22, mgI23, mgI24, mgI25, mgI26, mgI27, mgR0, mgR1, mgR2, mgR3, mgR4, mgR5, mgR8, mgR9, mgR10, mgR11, mgR12, Option.bind_some, va_rf_some, va_rf_none, bI_rI, bI_rB, bV_rV, bB_0, bB_1, iI_add, iI_sub, iI_mul, iI_neg, rI_of, rV_of, Int.reduceToNat, Int.neg_neg, k.h22, if_true, e_isW W.ot W.strap (by decide) k.tk, bI_rB, bB_0]
    cases c0 : wrd (ar 8) n p wStrap with
    | false =>
      rw [if_pos rfl, if_neg (by decide)]
      exact ⟨fi, ar, rfl, Sc.refl, Res.inr rfl k, fun s' q h => by injection h with h; injection h with h1 h2; rw [← h1]; exact w⟩
    | true =>
      rw [if_neg (by decide), if_pos rfl]
      obtain ⟨f1, a1, e1, s1, r1⟩ := e_edgeTold (G := G) (m := m) (g := g) (z := z) W w.dm w.rb k
      rw [e1, bV_rV]
      have e8 : a1 8 = ar 8 := s1.2 8 (by decide)
      cases hc : edgeS (ar 8) n (ar 0) p with
      | inl e =>
        rw [hc] at r1
        refine ⟨f1, a1, ?_, s1, r1, fun s' q h => by cases h⟩
        rw [b_X5_load_104]
        simp only [mK, mgI6, mgI7, mgI13, mgI14, mgI15, mgI16, mgI17, mgI18, mgI19, mgI20, mgI21, mgI22, mgI23, mgI24, mgI25, mgI26, mgI27, mgR0, mgR1, mgR2, mgR3, mgR4, mgR5, mgR8, mgR9, mgR10, mgR11, mgR12, Option.bind_some, va_rf_some, va_rf_none, bI_rI, bI_rB, bV_rV, bB_0, bB_1, iI_add, iI_sub, iI_mul, iI_neg, rI_of, rV_of, Int.reduceToNat, Int.neg_neg, r1.1]
        rw [if_neg (by decide)]
      | inr q =>
        obtain ⟨s', q⟩ := q
        rw [hc] at r1
        have ok := edgeS_ok k.hp (by rw [wrd_1 c0]; decide) w hc
        obtain ⟨f2, a2, e2, s2, r2, w2⟩ := ih (fi := f1) (ar := a1) (p := q) (by omega) r1.2 (by rw [r1.1]; exact ok.1)
        rw [e8, r1.1] at r2 w2
        exact ⟨f2, a2, e2, s1.trans s2, r2, w2⟩
end ML
