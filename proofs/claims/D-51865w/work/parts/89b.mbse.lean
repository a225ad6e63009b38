/-! ===== the straps' effect, by the model ===== -/
theorem fd_ub {F : Nat → Int → Int} {Q : Nat → Int → Prop} : ∀ {n : Nat} (_ : ∀ k, k < n → ∀ b B, F k b ≤ B ↔ b ≤ B ∧ Q k B) {b B : Int}, fd F n b ≤ B ↔ b ≤ B ∧ ∀ k, k < n → Q k B := by
  intro n
  induction n with
  | zero => exact fun _ {b B} => ⟨fun h => ⟨h, fun k hk => absurd hk (Nat.not_lt_zero k)⟩, fun h => h.1⟩
  | succ n ih =>
    intro h b B
    rw [fd, h n (Nat.lt_succ_self n), ih fun k hk => h k (Nat.lt_succ_of_lt hk)]
    constructor
    · rintro ⟨⟨h1, h2⟩, h3⟩
      refine ⟨h1, fun k hk => ?_⟩
      by_cases e : k = n
      · rw [e]; exact h3
      · exact h2 k (by omega)
    · rintro ⟨h1, h2⟩
      exact ⟨⟨h1, fun k hk => h2 k (Nat.lt_succ_of_lt hk)⟩, h2 n (Nat.lt_succ_self n)⟩
/-- the effect of a strap here -/
def seV (s : tRow) (d y x : Int) : Int := movs s (1 - s 2) - movs (fU s (edI x y d).toNat 1) (1 - s 2)
def seJ (s : tRow) (d y x : Int) (b : Int) : Int := if isEd s x y d = true ∧ mayF s x y d = true then max b (seV s d y x) else b
def mxE (s : tRow) : Int := fd (fun y b => fd (fun x b => fd (fun d b => seJ s d y x b) 2 b) (s 0).toNat b) (s 1).toNat 0
theorem seJ_ub {s : tRow} {d y x b B : Int} : seJ s d y x b ≤ B ↔ b ≤ B ∧ (isEd s x y d = true ∧ mayF s x y d = true → seV s d y x ≤ B) := by
  unfold seJ
  by_cases c : isEd s x y d = true ∧ mayF s x y d = true
  · rw [if_pos c]
    exact ⟨fun h => ⟨by omega, fun _ => by omega⟩, fun h => by have := h.2 c; have := h.1; omega⟩
  · rw [if_neg c]
    exact ⟨fun h => ⟨h, fun z => absurd z c⟩, fun h => h.1⟩
theorem seI_J {s : tRow} (hD : Dm s) (hT : 0 ≤ s 2 ∧ s 2 ≤ 1) {x y d : Nat} (hx : (x : Int) < s 0) (hy : (y : Int) < s 1) (hd : d < 2) {b : Int} : seI s (ctE s) d y x b = seJ s d y x b := by
  have d0 := hD.1
  have d1 := hD.2
  unfold seI seJ seV
  have e : (edI (x : Int) y d).toNat = 97 + ((d : Int) * 64 + ((y : Int) * 8 + x)).toNat := by
    unfold edI
    by_cases c : d = 0
    · subst c; simp only [if_pos (show ((0 : Nat) : Int) = 0 from rfl)]; omega
    · rw [if_neg (by omega)]; omega
  rw [e, eff hD (by omega) hT]
theorem seC_mx {s : tRow} (hD : Dm s) (hT : 0 ≤ s 2 ∧ s 2 ≤ 1) : seC s (ctE s) = mxE s := by
  have e : seC s (ctE s) = fd (fun d b => fd (fun y b => fd (fun x b => seJ s d y x b) (s 0).toNat b) (s 1).toNat b) 2 0 :=
    fd_congr fun d hd b => fd_congr fun y hy b => fd_congr fun x hx b => seI_J hD hT (by omega) (by omega) hd
  rw [e]
  have a1 : ∀ (d y : Nat) (b B : Int), fd (fun x b => seJ s d y x b) (s 0).toNat b ≤ B ↔ b ≤ B ∧ ∀ x : Nat, x < (s 0).toNat → (isEd s x y d = true ∧ mayF s x y d = true → seV s d y x ≤ B) := fun d y b B => fd_ub (F := fun (x : Nat) b => seJ s d y x b) (Q := fun (x : Nat) B => isEd s x y d = true ∧ mayF s x y d = true → seV s d y x ≤ B) fun x _ b B => seJ_ub
  have a2 : ∀ (d : Nat) (b B : Int), fd (fun y b => fd (fun x b => seJ s d y x b) (s 0).toNat b) (s 1).toNat b ≤ B ↔ b ≤ B ∧ ∀ y : Nat, y < (s 1).toNat → ∀ x : Nat, x < (s 0).toNat → (isEd s x y d = true ∧ mayF s x y d = true → seV s d y x ≤ B) := fun d b B => fd_ub fun y _ b B => a1 d y b B
  have a3 : ∀ (n : Nat) (B : Int), fd (fun d b => fd (fun y b => fd (fun x b => seJ s d y x b) (s 0).toNat b) (s 1).toNat b) n 0 ≤ B ↔ 0 ≤ B ∧ ∀ d : Nat, d < n → ∀ y : Nat, y < (s 1).toNat → ∀ x : Nat, x < (s 0).toNat → (isEd s x y d = true ∧ mayF s x y d = true → seV s d y x ≤ B) := fun n B => fd_ub fun d _ b B => a2 d b B
  have c1 : ∀ (y x n : Nat) (b B : Int), fd (fun d b => seJ s d y x b) n b ≤ B ↔ b ≤ B ∧ ∀ d : Nat, d < n → (isEd s x y d = true ∧ mayF s x y d = true → seV s d y x ≤ B) := fun y x n b B => fd_ub (F := fun (d : Nat) b => seJ s d y x b) (Q := fun (d : Nat) B => isEd s x y d = true ∧ mayF s x y d = true → seV s d y x ≤ B) fun d _ b B => seJ_ub
  have c2 : ∀ (y n : Nat) (b B : Int), fd (fun x b => fd (fun d b => seJ s d y x b) n b) (s 0).toNat b ≤ B ↔ b ≤ B ∧ ∀ x : Nat, x < (s 0).toNat → ∀ d : Nat, d < n → (isEd s x y d = true ∧ mayF s x y d = true → seV s d y x ≤ B) := fun y n b B => fd_ub fun x _ b B => c1 y x n b B
  have c3 : ∀ (n : Nat) (B : Int), fd (fun y b => fd (fun x b => fd (fun d b => seJ s d y x b) n b) (s 0).toNat b) (s 1).toNat 0 ≤ B ↔ 0 ≤ B ∧ ∀ y : Nat, y < (s 1).toNat → ∀ x : Nat, x < (s 0).toNat → ∀ d : Nat, d < n → (isEd s x y d = true ∧ mayF s x y d = true → seV s d y x ≤ B) := fun n B => fd_ub fun y _ b B => c2 y n b B
  have a := a3 2
  have c : ∀ B, mxE s ≤ B ↔ _ := c3 2
  refine Int.le_antisymm ((a _).mpr ?_) ((c _).mpr ?_)
  · have h := (c _).mp (Int.le_refl _)
    exact ⟨h.1, fun d hd y hy x hx => h.2 y hy x hx d hd⟩
  · have h := (a _).mp (Int.le_refl _)
    exact ⟨h.1, fun y hy x hx d hd => h.2 d hd y hy x hx⟩
section MBE
variable {G : tG} {m : Nat} {fi : Nat → Int} {ar : Nat → Nat → Int} {g : tAH} {z : Nat × Nat}
theorem seJ_b {s : tRow} (hD : Dm s) {d y x b : Int} (hb : 0 ≤ b ∧ b ≤ 1280) : 0 ≤ seJ s d y x b ∧ seJ s d y x b ≤ 1280 := by
  have m1 := movs_b hD (p := 1 - s 2)
  unfold seJ
  by_cases c : isEd s x y d = true ∧ mayF s x y d = true
  · rw [if_pos c]
    have hd : (edI x y d).toNat ≠ 0 ∧ (edI x y d).toNat ≠ 1 := by
      have := inB_7 hD (by have := c.1; unfold isEd at this; rw [Bool.and_eq_true] at this; exact this.1 : inB s x y = true)
      unfold edI
      split <;> omega
    have m2 := movs_b (s := fU s (edI x y d).toNat 1) (by
      have e0 : fU s (edI x y d).toNat 1 0 = s 0 := fU_n (Ne.symm hd.1)
      have e1 : fU s (edI x y d).toNat 1 1 = s 1 := fU_n (Ne.symm hd.2)
      unfold Dm
      rw [e0, e1]
      exact hD) (p := 1 - s 2)
    unfold seV
    omega
  · rw [if_neg c]; exact hb
theorem e_be62 (w : Wf (ar 0)) {x y : Nat} {b : Int} (hx : (x : Int) < ar 0 0) (hy : (y : Int) < ar 0 1) (hb : 0 ≤ b ∧ b ≤ 1280) : ∃ fi' ar', t_Ev (t_pg G) t_hd Y_X5_bestStrapEffect 62 ([some (.ref m), some (.int (iI (1 - ar 0 2))), some (.int (iI (movs (ar 0) (1 - ar 0 2)))), some (.int (iI b)), some (.int (iI y)), some (.int (iI x)), some (.int (iI 0))], [], (hM m fi ar g, z)) = t_Ev (t_pg G) t_hd Y_X5_bestStrapEffect 48 ([some (.ref m), some (.int (iI (1 - ar 0 2))), some (.int (iI (movs (ar 0) (1 - ar 0 2)))), some (.int (iI (fd (fun d b => seJ (ar 0) d y x b) 2 b))), some (.int (iI y)), some (.int (iI ((x + 1 : Nat) : Int))), some (.int (iI 2))], [], (hM m fi' ar' g, z)) ∧ Sc [17] [10, 11] fi ar fi' ar' := by
  have hD := w.bd.dm
  have hB := w.rb
  have hD0 := hD.1
  have hD1 := hD.2
  have mv := w.py.mv
  have mb := movs_b hD (p := 1 - ar 0 2)
  obtain ⟨⟨fi', ar'⟩, i1, e⟩ := lp_ik (N := 2) (σ := (Nat → Int) × (Nat → Nat → Int)) (I := fun _ c => Sc [17] [10, 11] fi ar c.1 c.2) (F := fun d c => t_Ev (t_pg G) t_hd Y_X5_bestStrapEffect 62 ([some (.ref m), some (.int (iI (1 - ar 0 2))), some (.int (iI (movs (ar 0) (1 - ar 0 2)))), some (.int (iI (fd (fun d b => seJ (ar 0) d y x b) d b))), some (.int (iI y)), some (.int (iI x)), some (.int (iI (d : Int)))], [], (hM m c.1 c.2 g, z))) (fun d hd c i1 => by
    obtain ⟨f1, a1⟩ := c
    dsimp only at i1 ⊢
    have h0 : a1 0 = ar 0 := i1.2 0 (by decide)
    have bb : 0 ≤ fd (fun d b => seJ (ar 0) d y x b) d b ∧ fd (fun d b => seJ (ar 0) d y x b) d b ≤ 1280 := fd_ge (P := fun b => 0 ≤ b ∧ b ≤ 1280) (fun _ _ _ h => seJ_b hD h) hb
    rw [b_X5_bestStrapEffect_62]
    simp (disch := omega) only [iI_lt, mK, Option.bind_some]
    rw [if_pos (by omega), e_isEdge (ar := a1) (by rw [h0]; exact hD) (by omega) (by omega) (by omega) (by omega) (by omega) (by omega), bI_rB, h0]
    simp only [bB_0]
    cases c1 : isEd (ar 0) x y d with
    | false =>
      refine ⟨(f1, a1), i1, ?_⟩
      rw [if_pos rfl, fd]
      unfold seJ
      rw [if_neg (fun h => by rw [c1] at h; exact absurd h.1 (by decide)), iI_add]
      rfl
    | true =>
      have hb := isEd_b hD c1 (by omega)
      rw [if_neg (by decide), mK, Option.bind_some, e_mayFasten (ar := a1) (by rw [h0]; exact hB) (by rw [h0]; exact mv.2) hb.1 hb.2.1 (by omega) hb.2.2.1 hb.2.2.2.1, bI_rB, h0]
      simp only [bB_0]
      cases c2 : mayF (ar 0) x y d with
      | false =>
        refine ⟨(f1, a1), i1, ?_⟩
        rw [if_pos rfl, fd]
        unfold seJ
        rw [if_neg (fun h => by rw [c2] at h; exact absurd h.2 (by decide)), iI_add]
        rfl
      | true =>
        have eb : 97 ≤ (edI (x : Int) y d).toNat ∧ (edI (x : Int) y d).toNat < 225 := by
          unfold edI
          split <;> omega
        have st := w.sp.st (edI (x : Int) y d).toNat eb.1 eb.2
        have e0 : ar 0 (edI (x : Int) y d).toNat = 0 := by
          have q := (mayF_iff c2).2.2.1
          rw [(nei_edge (s := ar 0) (x := x) (y := y) (d := d) (by omega)).2.1] at q
          have := of_decide_eq_false q
          omega
        have h0' : aU a1 0 (edI (x : Int) y d).toNat 1 0 = fU (ar 0) (edI (x : Int) y d).toNat 1 := by rw [aU_s, h0]
        have u2 : aU a1 0 (edI (x : Int) y d).toNat 1 0 2 = ar 0 2 := by rw [h0']; exact fU_n (by omega)
        have hD' : Dm (aU a1 0 (edI (x : Int) y d).toNat 1 0) := by
          rw [h0']
          unfold Dm
          rw [show fU (ar 0) (edI (x : Int) y d).toNat 1 0 = ar 0 0 from fU_n (by omega), show fU (ar 0) (edI (x : Int) y d).toNat 1 1 = ar 0 1 from fU_n (by omega)]
          exact hD
        obtain ⟨f2, a2, em, sm'⟩ := e_moves (G := G) (m := m) (fi := f1) (ar := aU a1 0 (edI (x : Int) y d).toNat 1) (g := g) (z := z) hD' (by rw [h0']; exact hB.set (by decide)) (p := 1 - ar 0 2) (by omega) (by omega)
        rw [h0'] at em
        have m2 := movs_b (s := fU (ar 0) (edI (x : Int) y d).toNat 1) (by rw [← h0']; exact hD') (p := 1 - ar 0 2)
        have a20 : a2 0 = fU (ar 0) (edI (x : Int) y d).toNat 1 := (sm'.2 0 (by decide)).trans h0'
        refine ⟨(f2, aU a2 0 (edI (x : Int) y d).toNat 0), ⟨fun j hj => (sm'.1 j hj).trans (i1.1 j hj), fun k hk => ?_⟩, ?_⟩
        · by_cases k0 : k = 0
          · subst k0
            show aU a2 0 _ 0 0 = ar 0
            rw [aU_s, a20, fU_fU]
            funext j
            by_cases e : j = (edI (x : Int) y d).toNat
            · rw [e, fU_s, e0]
            · rw [fU_n e]
          · exact (aU_n k0).trans ((sm'.2 k hk).trans ((aU_n k0).trans (i1.2 k hk)))
        · rw [if_neg (by decide), mgR0, Option.bind_some, e_edge (by omega) (by omega), bI_rI, va_rf_some, mst0 hb.2.2.2.2.1 hb.2.2.2.2.2, Option.bind_some, mK, Option.bind_some, em, bI_rI, iI_sub, e_max (by omega) (by omega) (by omega) (by omega), bI_rI, mgR0, Option.bind_some, e_edge (by omega) (by omega), bI_rI, va_rf_some, mst0 hb.2.2.2.2.1 hb.2.2.2.2.2, Option.bind_some, fd]
          unfold seJ
          rw [if_pos ⟨c1, c2⟩, iI_add]
          rfl) (fi, ar) Sc.refl
  dsimp only at i1 e
  refine ⟨fi', ar', Eq.trans e ?_, i1⟩
  rw [b_X5_bestStrapEffect_62, if_neg (by decide), iI_add]
  rfl
theorem e_be48 (w : Wf (ar 0)) {y : Nat} {b : Int} {u : Option Value} (hy : (y : Int) < ar 0 1) (hb : 0 ≤ b ∧ b ≤ 1280) : ∃ fi' ar' u', t_Ev (t_pg G) t_hd Y_X5_bestStrapEffect 48 ([some (.ref m), some (.int (iI (1 - ar 0 2))), some (.int (iI (movs (ar 0) (1 - ar 0 2)))), some (.int (iI b)), some (.int (iI y)), some (.int (iI 0)), u], [], (hM m fi ar g, z)) = t_Ev (t_pg G) t_hd Y_X5_bestStrapEffect 34 ([some (.ref m), some (.int (iI (1 - ar 0 2))), some (.int (iI (movs (ar 0) (1 - ar 0 2)))), some (.int (iI (fd (fun x b => fd (fun d b => seJ (ar 0) d y x b) 2 b) (ar 0 0).toNat b))), some (.int (iI ((y + 1 : Nat) : Int))), some (.int (iI (ar 0 0))), u'], [], (hM m fi' ar' g, z)) ∧ Sc [17] [10, 11] fi ar fi' ar' := by
  have hD := w.bd.dm
  have hn := tn_of hD.1.1
  have hD0 := hD.1
  have hD1 := hD.2
  have bd : ∀ x, 0 ≤ fd (fun x b => fd (fun d b => seJ (ar 0) d y x b) 2 b) x b ∧ fd (fun x b => fd (fun d b => seJ (ar 0) d y x b) 2 b) x b ≤ 1280 := fun x => fd_ge (P := fun b => 0 ≤ b ∧ b ≤ 1280) (fun _ _ _ h => fd_ge (P := fun b => 0 ≤ b ∧ b ≤ 1280) (fun _ _ _ h => seJ_b hD h) h) hb
  obtain ⟨⟨fi', ar', u'⟩, i1, e⟩ := lp_ik (N := (ar 0 0).toNat) (σ := (Nat → Int) × (Nat → Nat → Int) × Option Value) (I := fun _ c => Sc [17] [10, 11] fi ar c.1 c.2.1) (F := fun x c => t_Ev (t_pg G) t_hd Y_X5_bestStrapEffect 48 ([some (.ref m), some (.int (iI (1 - ar 0 2))), some (.int (iI (movs (ar 0) (1 - ar 0 2)))), some (.int (iI (fd (fun x b => fd (fun d b => seJ (ar 0) d y x b) 2 b) x b))), some (.int (iI y)), some (.int (iI (x : Int))), c.2.2], [], (hM m c.1 c.2.1 g, z))) (fun x hx c i1 => by
    obtain ⟨f1, a1, u1⟩ := c
    dsimp only at i1 ⊢
    have h0 : a1 0 = ar 0 := i1.2 0 (by decide)
    obtain ⟨f2, a2, e2, s2⟩ := e_be62 (G := G) (m := m) (fi := f1) (ar := a1) (g := g) (z := z) (x := x) (y := y) (by rw [h0]; exact w) (by rw [h0]; omega) (by rw [h0]; omega) (bd x)
    rw [h0] at e2
    refine ⟨(f2, a2, some (.int (iI 2))), i1.trans s2, ?_⟩
    rw [b_X5_bestStrapEffect_48]
    simp (disch := omega) only [mK, mgI6, mgI7, mgI13, mgI14, mgI15, mgI16, mgI17, mgI18, mgI19, mgI20, mgI21, mgI22, mgI23, mgI24, mgI25, mgI26, mgI27, mgR0, mgR1, mgR2, mgR3, mgR4, mgR5, mgR8, mgR9, mgR10, mgR11, mgR12, Option.bind_some, va_rf_some, va_rf_none, bI_rI, bI_rB, bV_rV, bB_0, bB_1, iI_add, iI_sub, iI_mul, iI_neg, rI_of, rV_of, Int.reduceToNat, Int.neg_neg, mld0, iI_lt, h0]
    rw [if_pos (show (x : Int) < ar 0 0 by omega)]
    exact e2) (fi, ar, u) Sc.refl
  dsimp only at i1 e
  have h0 : ar' 0 = ar 0 := i1.2 0 (by decide)
  refine ⟨fi', ar', u', Eq.trans e ?_, i1⟩
  rw [b_X5_bestStrapEffect_48]
  simp (disch := omega) only [mK, mgI6, mgI7, mgI13, mgI14, mgI15, mgI16, mgI17, mgI18, mgI19, mgI20, mgI21, mgI22, mgI23, mgI24, mgI25, mgI26, mgI27, mgR0, mgR1, mgR2, mgR3, mgR4, mgR5, mgR8, mgR9, mgR10, mgR11, mgR12, Option.bind_some, va_rf_some, va_rf_none, bI_rI, bI_rB, bV_rV, bB_0, bB_1, iI_add, iI_sub, iI_mul, iI_neg, rI_of, rV_of, Int.reduceToNat, Int.neg_neg, mld0, iI_lt, h0]
  rw [if_neg (by omega), hn]
  rfl
theorem m_bestStrapEffect (md : Md fi ar) {kc : Nat → Int} : MQr m g z fi ar kc (t_Ev (t_pg G) t_hd Y_X5_bestStrapEffect 0 ([some (.ref m), none, none, none, none, none, none], [], (hM m fi ar g, z))) (.inr (if ovr (ar 0) = true then -1 else seC (ar 0) (ctE (ar 0)))) := by
  have w := md.w
  have hD := w.bd.dm
  have hB := w.rb
  have hn := tn_of hD.2.1
  have hD0 := hD.1
  have hD1 := hD.2
  have mv := w.py.mv
  rw [b_X5_bestStrapEffect_0, mpI7, Option.bind_some, mK, Option.bind_some, e_over hB, bI_rB]
  simp only [bB_0]
  cases c : ovr (ar 0) with
  | true => exact MQr.v7 rfl
  | false =>
    obtain ⟨f1, a1, em, s1⟩ := e_moves (G := G) (m := m) (fi := fU fi 7 0) (ar := ar) (g := g) (z := z) hD hB (p := 1 - ar 0 2) (by omega) (by omega)
    have h1 : a1 0 = ar 0 := s1.2 0 (by decide)
    rw [if_pos rfl, if_neg (by decide), seC_mx hD mv, mgR0, Option.bind_some, va_rf_some, mld0 (by omega) (by omega), Option.bind_some, mK, Option.bind_some, iI_sub, show ar 0 (Int.toNat 2) = ar 0 2 from rfl, em, bI_rI]
    have bd : ∀ y, 0 ≤ fd (fun y b => fd (fun x b => fd (fun d b => seJ (ar 0) d y x b) 2 b) (ar 0 0).toNat b) y 0 ∧ fd (fun y b => fd (fun x b => fd (fun d b => seJ (ar 0) d y x b) 2 b) (ar 0 0).toNat b) y 0 ≤ 1280 := fun y => fd_ge (P := fun b => 0 ≤ b ∧ b ≤ 1280) (fun _ _ _ h => fd_ge (P := fun b => 0 ≤ b ∧ b ≤ 1280) (fun _ _ _ h => fd_ge (P := fun b => 0 ≤ b ∧ b ≤ 1280) (fun _ _ _ h => seJ_b hD h) h) h) ⟨Int.le_refl 0, by omega⟩
    obtain ⟨⟨fi', ar', u1, u2⟩, i1, e⟩ := lp_ik (N := (ar 0 1).toNat) (σ := (Nat → Int) × (Nat → Nat → Int) × Option Value × Option Value) (I := fun _ c => Sc [17] [10, 11] f1 a1 c.1 c.2.1) (F := fun y c => t_Ev (t_pg G) t_hd Y_X5_bestStrapEffect 34 ([some (.ref m), some (.int (iI (1 - ar 0 2))), some (.int (iI (movs (ar 0) (1 - ar 0 2)))), some (.int (iI (fd (fun y b => fd (fun x b => fd (fun d b => seJ (ar 0) d y x b) 2 b) (ar 0 0).toNat b) y 0))), some (.int (iI (y : Int))), c.2.2.1, c.2.2.2], [], (hM m c.1 c.2.1 g, z))) (fun y hy c i1 => by
      obtain ⟨f2, a2, u1, u2⟩ := c
      dsimp only at i1 ⊢
      have h0 : a2 0 = ar 0 := (i1.2 0 (by decide)).trans h1
      obtain ⟨f3, a3, u', e3, s3⟩ := e_be48 (G := G) (m := m) (fi := f2) (ar := a2) (g := g) (z := z) (y := y) (u := u2) (by rw [h0]; exact w) (by rw [h0]; omega) (bd y)
      rw [h0] at e3
      refine ⟨(f3, a3, some (.int (iI (ar 0 0))), u'), i1.trans s3, ?_⟩
      rw [b_X5_bestStrapEffect_34]
      simp (disch := omega) only [mK, mgI6, mgI7, mgI13, mgI14, mgI15, mgI16, mgI17, mgI18, mgI19, mgI20, mgI21, mgI22, mgI23, mgI24, mgI25, mgI26, mgI27, mgR0, mgR1, mgR2, mgR3, mgR4, mgR5, mgR8, mgR9, mgR10, mgR11, mgR12, Option.bind_some, va_rf_some, va_rf_none, bI_rI, bI_rB, bV_rV, bB_0, bB_1, iI_add, iI_sub, iI_mul, iI_neg, rI_of, rV_of, Int.reduceToNat, Int.neg_neg, mld0, iI_lt, h0]
      rw [if_pos (show (y : Int) < ar 0 1 by omega)]
      exact e3) (f1, a1, none, none) Sc.refl
    dsimp only at i1 e
    have sc := s1.trans i1
    have h0 : ar' 0 = ar 0 := sc.2 0 (by decide)
    refine MQr.v (fi' := fi') (ar' := ar') (Eq.trans e ?_) (q7_Sc.trans sc.q17) ((sc.1 7 (by decide)).trans fU_s)
    rw [b_X5_bestStrapEffect_34]
    simp (disch := omega) only [mK, mgI6, mgI7, mgI13, mgI14, mgI15, mgI16, mgI17, mgI18, mgI19, mgI20, mgI21, mgI22, mgI23, mgI24, mgI25, mgI26, mgI27, mgR0, mgR1, mgR2, mgR3, mgR4, mgR5, mgR8, mgR9, mgR10, mgR11, mgR12, Option.bind_some, va_rf_some, va_rf_none, bI_rI, bI_rB, bV_rV, bB_0, bB_1, iI_add, iI_sub, iI_mul, iI_neg, rI_of, rV_of, Int.reduceToNat, Int.neg_neg, mld0, iI_lt, h0]
    rw [if_neg (by omega)]
    rfl
end MBE
