/-! ===== the model: where a placement's cells lie, whether it fits ===== -/
def shN (sh : Int) : Nat := if sh = 0 then 2 else if sh < 3 then 3 else 4
def oX (sh k : Int) : Int := if sh = 1 ∨ sh = 3 then k % 2 else if sh = 4 ∧ k = 3 then 0 else k
def oY (sh k : Int) : Int := if sh = 1 ∨ sh = 3 then k / 2 else if sh = 4 ∧ k = 3 then 1 else 0
def rqX (r a b : Int) : Int := if r = 0 then a else if r = 1 then -b else if r = 2 then -a else b
def rqY (r a b : Int) : Int := if r = 0 then b else if r = 1 then a else if r = 2 then -b else -a
def cX (sh r x : Int) (k : Nat) : Int := x + rqX r (oX sh k) (oY sh k)
def cY (sh r y : Int) (k : Nat) : Int := y + rqY r (oX sh k) (oY sh k)
theorem shN_b {sh : Int} : 2 ≤ shN sh ∧ shN sh ≤ 4 := by unfold shN; split <;> (try split) <;> omega
theorem oX_b {sh k : Int} (h1 : 0 ≤ k) (h2 : k ≤ 3) : 0 ≤ oX sh k ∧ oX sh k ≤ 3 := by unfold oX; split <;> (try split) <;> omega
theorem oY_b {sh k : Int} (h1 : 0 ≤ k) (h2 : k ≤ 3) : 0 ≤ oY sh k ∧ oY sh k ≤ 3 := by unfold oY; split <;> (try split) <;> omega
theorem rqX_b {r a b : Int} (h1 : 0 ≤ a ∧ a ≤ 3) (h2 : 0 ≤ b ∧ b ≤ 3) : -3 ≤ rqX r a b ∧ rqX r a b ≤ 3 := by unfold rqX; split <;> (try split) <;> (try split) <;> omega
theorem rqY_b {r a b : Int} (h1 : 0 ≤ a ∧ a ≤ 3) (h2 : 0 ≤ b ∧ b ≤ 3) : -3 ≤ rqY r a b ∧ rqY r a b ≤ 3 := by unfold rqY; split <;> (try split) <;> (try split) <;> omega
theorem cX_b {sh r x : Int} {k : Nat} (h : k < shN sh) : x - 3 ≤ cX sh r x k ∧ cX sh r x k ≤ x + 3 := by
  have h3 := (shN_b (sh := sh)).2
  have := rqX_b (r := r) (oX_b (sh := sh) (k := k) (by omega) (by omega)) (oY_b (sh := sh) (k := k) (by omega) (by omega))
  unfold cX; omega
theorem cY_b {sh r y : Int} {k : Nat} (h : k < shN sh) : y - 3 ≤ cY sh r y k ∧ cY sh r y k ≤ y + 3 := by
  have h3 := (shN_b (sh := sh)).2
  have := rqY_b (r := r) (oX_b (sh := sh) (k := k) (by omega) (by omega)) (oY_b (sh := sh) (k := k) (by omega) (by omega))
  unfold cY; omega
/-- a row whose numbers are small -/
abbrev RB (s : tRow) : Prop := ∀ j, 0 ≤ s j ∧ s j ≤ 1000000
theorem RB.c {s : tRow} (h : RB s) (x y : Int) : 0 ≤ cI s x y ∧ cI s x y ≤ 1000000 := h _
/-- what may have changed: some fields, some arrays -/
def Sc (I A : List Nat) (fi : Nat → Int) (ar : Nat → Nat → Int) (fi' : Nat → Int) (ar' : Nat → Nat → Int) : Prop := (∀ j, j ∉ I → fi' j = fi j) ∧ ∀ k, k ∉ A → ar' k = ar k
theorem Sc.refl {I A : List Nat} {fi : Nat → Int} {ar : Nat → Nat → Int} : Sc I A fi ar fi ar := ⟨fun _ _ => rfl, fun _ _ => rfl⟩
theorem Sc.trans {I A : List Nat} {f0 f1 f2 : Nat → Int} {a0 a1 a2 : Nat → Nat → Int} (h : Sc I A f0 a0 f1 a1) (h' : Sc I A f1 a1 f2 a2) : Sc I A f0 a0 f2 a2 := ⟨fun j hj => (h'.1 j hj).trans (h.1 j hj), fun k hk => (h'.2 k hk).trans (h.2 k hk)⟩
theorem Sc.mono {I A I' A' : List Nat} {f0 f1 : Nat → Int} {a0 a1 : Nat → Nat → Int} (h : Sc I A f0 a0 f1 a1) (h1 : ∀ j ∈ I, j ∈ I') (h2 : ∀ j ∈ A, j ∈ A') : Sc I' A' f0 a0 f1 a1 := ⟨fun j hj => h.1 j fun q => hj (h1 j q), fun k hk => h.2 k fun q => hk (h2 k q)⟩
theorem Sc.fU {I A : List Nat} {f0 f1 : Nat → Int} {a0 a1 : Nat → Nat → Int} {k : Nat} {v : Int} (h : Sc I A f0 a0 f1 a1) (hk : k ∈ I) : Sc I A f0 a0 (fU f1 k v) a1 := ⟨fun j hj => (fU_n fun e => hj (by rw [e]; exact hk)).trans (h.1 j hj), h.2⟩
theorem Sc.aU {I A : List Nat} {f0 f1 : Nat → Int} {a0 a1 : Nat → Nat → Int} {k q : Nat} {v : Int} (h : Sc I A f0 a0 f1 a1) (hk : k ∈ A) : Sc I A f0 a0 f1 (aU a1 k q v) := ⟨h.1, fun j hj => (aU_n fun e => hj (by rw [e]; exact hk)).trans (h.2 j hj)⟩
/-- the scratch of a placement -/
def Spd (fi : Nat → Int) (ar : Nat → Nat → Int) (sh r x y : Int) : Prop := fi 17 = shN sh ∧ ∀ k, k < shN sh → ar 10 k = cX sh r x k ∧ ar 11 k = cY sh r y k
/-- loops with an invariant -/
theorem lp_ik {β σ : Type} {F : Nat → σ → β} {I : Nat → σ → Prop} {N : Nat} (h : ∀ k, k < N → ∀ c, I k c → ∃ c', I (k + 1) c' ∧ F k c = F (k + 1) c') : ∀ c, I 0 c → ∃ c', I N c' ∧ F 0 c = F N c' := by
  induction N with
  | zero => exact fun c h => ⟨c, h, rfl⟩
  | succ n ih =>
    intro c hc
    obtain ⟨c1, i1, e1⟩ := ih (fun k hk => h k (Nat.lt_succ_of_lt hk)) c hc
    obtain ⟨c2, i2, e2⟩ := h n (Nat.lt_succ_self n) c1 i1
    exact ⟨c2, i2, e1.trans e2⟩
/-- .. that may be left early -/
theorem lp_x {β σ : Type} {F : Nat → σ → β} {X : σ → β} {I : σ → Prop} {p : Nat → Bool} {N : Nat} (h : ∀ k, k < N → ∀ c, I c → ∃ c', I c' ∧ F k c = if p k = true then X c' else F (k + 1) c') : ∀ c, I c → ∃ c', I c' ∧ F 0 c = if an p N = true then X c' else F N c' := by
  induction N with
  | zero => exact fun c h => ⟨c, h, rfl⟩
  | succ n ih =>
    intro c hc
    obtain ⟨c1, i1, e1⟩ := ih (fun k hk => h k (Nat.lt_succ_of_lt hk)) c hc
    rw [an]
    cases h1 : an p n with
    | true => exact ⟨c1, i1, by rw [e1, h1]; rfl⟩
    | false =>
      obtain ⟨c2, i2, e2⟩ := h n (Nat.lt_succ_self n) c1 i1
      exact ⟨c2, i2, by rw [e1, h1, e2]; rfl⟩
theorem rcs5 {sh : Int} (h1 : 0 ≤ sh) (h2 : sh ≤ 4) : sh = 0 ∨ sh = 1 ∨ sh = 2 ∨ sh = 3 ∨ sh = 4 := by omega
theorem rcs4 {r : Int} (h1 : 0 ≤ r) (h2 : r ≤ 3) : r = 0 ∨ r = 1 ∨ r = 2 ∨ r = 3 := by omega
section MF
variable {G : tG} {m : Nat} {fi : Nat → Int} {ar : Nat → Nat → Int} {g : tAH} {z : Nat × Nat} {hs : tHS}
theorem e_sizeOf {sh : Int} (h1 : 0 ≤ sh) (h2 : sh ≤ 4) : t_Ev (t_pg G) t_hd Y_X5_sizeOf 0 ([some (.int (iI sh))], [], hs) = rI (shN sh) hs := by
  rw [b_X5_sizeOf_0]
  rcases rcs5 h1 h2 with rfl | rfl | rfl | rfl | rfl <;> rfl
theorem e_dx {sh k : Int} (h1 : 0 ≤ sh) (h2 : sh ≤ 4) (h3 : 0 ≤ k) (h4 : k ≤ 3) : t_Ev (t_pg G) t_hd Y_X5_dx 0 ([some (.int (iI sh)), some (.int (iI k))], [], hs) = rI (oX sh k) hs := by
  rw [b_X5_dx_0]
  rcases rcs5 h1 h2 with rfl | rfl | rfl | rfl | rfl <;> rcases rcs4 h3 h4 with rfl | rfl | rfl | rfl <;> rfl
theorem e_dy {sh k : Int} (h1 : 0 ≤ sh) (h2 : sh ≤ 4) (h3 : 0 ≤ k) (h4 : k ≤ 3) : t_Ev (t_pg G) t_hd Y_X5_dy 0 ([some (.int (iI sh)), some (.int (iI k))], [], hs) = rI (oY sh k) hs := by
  rw [b_X5_dy_0]
  rcases rcs5 h1 h2 with rfl | rfl | rfl | rfl | rfl <;> rcases rcs4 h3 h4 with rfl | rfl | rfl | rfl <;> rfl
theorem e_spr39 {r x y a b k : Int} {v1 v9 : Option Value} (h1 : 0 ≤ r) (h2 : r ≤ 3) (h3 : 0 ≤ k) (h4 : k ≤ 3) : ∃ v6 v7 v8 v9', t_Ev (t_pg G) t_hd Y_X5_spreads 39 ([some (.ref m), v1, some (.int (iI r)), some (.int (iI x)), some (.int (iI y)), some (.int (iI k)), some (.int (iI a)), some (.int (iI b)), some (.int (iI 0)), v9], [], (hM m fi ar g, z)) = t_Ev (t_pg G) t_hd Y_X5_spreads 11 ([some (.ref m), v1, some (.int (iI r)), some (.int (iI x)), some (.int (iI y)), some (.int (iI (k + 1))), v6, v7, v8, v9'], [], (hM m fi (aU (aU ar 10 k.toNat (x + rqX r a b)) 11 k.toNat (y + rqY r a b)) g, z)) := by
  rcases rcs4 h1 h2 with rfl | rfl | rfl | rfl
  · refine ⟨some (.int (iI (rqX 0 a b))), some (.int (iI (rqY 0 a b))), some (.int (iI 0)), v9, ?_⟩
    rw [b_X5_spreads_39]
    simp (disch := omega) only [Option.bind_some, va_rf_some, va_rf_none, bI_rI, bI_rB, bV_rV, bB_0, bB_1, iI_add, iI_sub, iI_mul, iI_neg, rI_of, rV_of, Int.reduceToNat, Int.neg_neg, mK, mgI6, mgI7, mgI13, mgI14, mgI15, mgI16, mgI17, mgI18, mgI19, mgI20, mgI21, mgI22, mgI23, mgI24, mgI25, mgI26, mgI27, mgR0, mgR1, mgR2, mgR3, mgR4, mgR5, mgR8, mgR9, mgR10, mgR11, mgR12, mld0, mld1, mld2, mld3, mld4, mld5, mld8, mld9, mld10, mld11, mld12, iI_lt, iI_le, iI_inj, Int.toNat_natCast, Int.lt_irrefl, if_true, if_false, reduceIte, mst10, mst11, Int.reduceLT, Int.reduceAdd]
    (try rfl)
  · refine ⟨some (.int (iI (rqX 1 a b))), some (.int (iI (rqY 1 a b))), some (.int (iI 1)), some (.int (iI a)), ?_⟩
    rw [b_X5_spreads_39, b_X5_spreads_39]
    simp (disch := omega) only [Option.bind_some, va_rf_some, va_rf_none, bI_rI, bI_rB, bV_rV, bB_0, bB_1, iI_add, iI_sub, iI_mul, iI_neg, rI_of, rV_of, Int.reduceToNat, Int.neg_neg, mK, mgI6, mgI7, mgI13, mgI14, mgI15, mgI16, mgI17, mgI18, mgI19, mgI20, mgI21, mgI22, mgI23, mgI24, mgI25, mgI26, mgI27, mgR0, mgR1, mgR2, mgR3, mgR4, mgR5, mgR8, mgR9, mgR10, mgR11, mgR12, mld0, mld1, mld2, mld3, mld4, mld5, mld8, mld9, mld10, mld11, mld12, iI_lt, iI_le, iI_inj, Int.toNat_natCast, Int.lt_irrefl, if_true, if_false, reduceIte, mst10, mst11, Int.reduceLT, Int.reduceAdd]
    (try rfl)
  · refine ⟨some (.int (iI (rqX 2 a b))), some (.int (iI (rqY 2 a b))), some (.int (iI 2)), some (.int (iI (-b))), ?_⟩
    rw [b_X5_spreads_39, b_X5_spreads_39, b_X5_spreads_39]
    simp (disch := omega) only [Option.bind_some, va_rf_some, va_rf_none, bI_rI, bI_rB, bV_rV, bB_0, bB_1, iI_add, iI_sub, iI_mul, iI_neg, rI_of, rV_of, Int.reduceToNat, Int.neg_neg, mK, mgI6, mgI7, mgI13, mgI14, mgI15, mgI16, mgI17, mgI18, mgI19, mgI20, mgI21, mgI22, mgI23, mgI24, mgI25, mgI26, mgI27, mgR0, mgR1, mgR2, mgR3, mgR4, mgR5, mgR8, mgR9, mgR10, mgR11, mgR12, mld0, mld1, mld2, mld3, mld4, mld5, mld8, mld9, mld10, mld11, mld12, iI_lt, iI_le, iI_inj, Int.toNat_natCast, Int.lt_irrefl, if_true, if_false, reduceIte, mst10, mst11, Int.reduceLT, Int.reduceAdd]
    (try rfl)
  · refine ⟨some (.int (iI (rqX 3 a b))), some (.int (iI (rqY 3 a b))), some (.int (iI 3)), some (.int (iI (-a))), ?_⟩
    rw [b_X5_spreads_39, b_X5_spreads_39, b_X5_spreads_39, b_X5_spreads_39]
    simp (disch := omega) only [Option.bind_some, va_rf_some, va_rf_none, bI_rI, bI_rB, bV_rV, bB_0, bB_1, iI_add, iI_sub, iI_mul, iI_neg, rI_of, rV_of, Int.reduceToNat, Int.neg_neg, mK, mgI6, mgI7, mgI13, mgI14, mgI15, mgI16, mgI17, mgI18, mgI19, mgI20, mgI21, mgI22, mgI23, mgI24, mgI25, mgI26, mgI27, mgR0, mgR1, mgR2, mgR3, mgR4, mgR5, mgR8, mgR9, mgR10, mgR11, mgR12, mld0, mld1, mld2, mld3, mld4, mld5, mld8, mld9, mld10, mld11, mld12, iI_lt, iI_le, iI_inj, Int.toNat_natCast, Int.lt_irrefl, if_true, if_false, reduceIte, mst10, mst11, Int.reduceLT, Int.reduceAdd]
    (try rfl)
theorem e_spreads {sh r x y : Int} (h1 : 0 ≤ sh) (h2 : sh ≤ 4) (h3 : 0 ≤ r) (h4 : r ≤ 3) : ∃ fi' ar', t_Ev (t_pg G) t_hd Y_X5_spreads 0 ([some (.ref m), some (.int (iI sh)), some (.int (iI r)), some (.int (iI x)), some (.int (iI y)), none, none, none, none, none], [], (hM m fi ar g, z)) = rV (hM m fi' ar' g, z) ∧ Sc [17] [10, 11] fi ar fi' ar' ∧ Spd fi' ar' sh r x y := by
  rw [b_X5_spreads_0]
  simp only [e_sizeOf h1 h2, Option.bind_some, va_rf_some, va_rf_none, bI_rI, bI_rB, bV_rV, bB_0, bB_1, iI_add, iI_sub, iI_mul, iI_neg, rI_of, rV_of, Int.reduceToNat, Int.neg_neg, mpI17]
  have hN := (shN_b (sh := sh)).2
  obtain ⟨⟨ar', v6, v7, v8, v9⟩, ⟨i1, i2⟩, e⟩ := lp_ik (N := shN sh) (σ := (Nat → Nat → Int) × Option Value × Option Value × Option Value × Option Value)
    (F := fun k c => t_Ev (t_pg G) t_hd Y_X5_spreads 11 ([some (.ref m), some (.int (iI sh)), some (.int (iI r)), some (.int (iI x)), some (.int (iI y)), some (.int (iI (k : Int))), c.2.1, c.2.2.1, c.2.2.2.1, c.2.2.2.2], [], (hM m (fU fi 17 (shN sh)) c.1 g, z)))
    (I := fun k c => Sc [17] [10, 11] fi ar (fU fi 17 (shN sh)) c.1 ∧ ∀ j, j < k → c.1 10 j = cX sh r x j ∧ c.1 11 j = cY sh r y j) (fun k hk c hc => by
      obtain ⟨c1, c2⟩ := hc
      obtain ⟨v6, v7, v8, v9, e⟩ := e_spr39 (G := G) (m := m) (fi := fU fi 17 (shN sh)) (ar := c.1) (g := g) (z := z) (r := r) (x := x) (y := y) (a := oX sh k) (b := oY sh k) (k := k) (v1 := some (.int (iI sh))) (v9 := c.2.2.2.2) h3 h4 (by omega) (by omega)
      refine ⟨(aU (aU c.1 10 k (cX sh r x k)) 11 k (cY sh r y k), v6, v7, v8, v9), ⟨(c1.aU (by decide)).aU (by decide), fun j hj => ?_⟩, ?_⟩
      · try dsimp only
        rw [aU_n (by decide), aU_s, aU_s, aU_n (by decide)]
        by_cases hjk : j = k
        · subst hjk; exact ⟨fU_s, fU_s⟩
        · rw [fU_n hjk, fU_n hjk]; exact c2 j (by omega)
      · try dsimp only
        have hk' : (k : Int) < (shN sh : Int) := by omega
        rw [b_X5_spreads_11]
        simp (disch := omega) only [mgI6, mgI7, mgI13, mgI14, mgI15, mgI16, mgI17, mgI18, mgI19, mgI20, mgI21, mgI22, mgI23, mgI24, mgI25, mgI26, mgI27, Option.bind_some, va_rf_some, va_rf_none, bI_rI, bI_rB, bV_rV, bB_0, bB_1, iI_add, iI_sub, iI_mul, iI_neg, rI_of, rV_of, Int.reduceToNat, Int.neg_neg, iI_lt, iI_le, iI_inj, Int.toNat_natCast, Int.lt_irrefl, if_true, if_false, reduceIte, fU_s, hk', e_dx h1 h2, e_dy h1 h2, e]
        (try rfl)) (ar, none, none, none, none) ⟨Sc.refl.fU (by decide), fun j hj => absurd hj (Nat.not_lt_zero j)⟩
  refine ⟨fU fi 17 (shN sh), ar', ?_, i1, fU_s, i2⟩
  refine Eq.trans e ?_
  try dsimp only
  rw [b_X5_spreads_11]
  simp (disch := omega) only [mgI6, mgI7, mgI13, mgI14, mgI15, mgI16, mgI17, mgI18, mgI19, mgI20, mgI21, mgI22, mgI23, mgI24, mgI25, mgI26, mgI27, Option.bind_some, va_rf_some, va_rf_none, bI_rI, bI_rB, bV_rV, bB_0, bB_1, iI_add, iI_sub, iI_mul, iI_neg, rI_of, rV_of, Int.reduceToNat, Int.neg_neg, iI_lt, iI_le, iI_inj, Int.toNat_natCast, Int.lt_irrefl, if_true, if_false, reduceIte, fU_s]
theorem aI_b {a : Int} (h1 : -100 ≤ a) (h2 : a ≤ 100) : 0 ≤ aI a ∧ aI a ≤ 100 := by unfold aI; split <;> omega
theorem e_areN {x y u v : Int} (h1 : -20 ≤ x ∧ x ≤ 20) (h2 : -20 ≤ y ∧ y ≤ 20) (h3 : -20 ≤ u ∧ u ≤ 20) (h4 : -20 ≤ v ∧ v ≤ 20) : t_Ev (t_pg G) t_hd Y_X5_areNeighbours 0 ([some (.int (iI x)), some (.int (iI y)), some (.int (iI u)), some (.int (iI v))], [], hs) = rB (nei x y u v) hs := by
  have b1 := aI_b (a := x - u) (by omega) (by omega)
  have b2 := aI_b (a := y - v) (by omega) (by omega)
  rw [b_X5_areNeighbours_0]
  simp (disch := omega) only [Option.bind_some, va_rf_some, va_rf_none, bI_rI, bI_rB, bV_rV, bB_0, bB_1, iI_add, iI_sub, iI_mul, iI_neg, rI_of, rV_of, Int.reduceToNat, Int.neg_neg, e_abs, iI_inj, rB_dec]
  (try rfl)
theorem e_isStrapped (hB : RB (ar 0)) {x y u v : Int} (h1 : 0 ≤ x ∧ x ≤ 7) (h2 : 0 ≤ y ∧ y ≤ 7) (h3 : 0 ≤ u ∧ u ≤ 7) (h4 : 0 ≤ v ∧ v ≤ 7) : t_Ev (t_pg G) t_hd Y_X5_isStrapped 0 ([some (.ref m), some (.int (iI x)), some (.int (iI y)), some (.int (iI u)), some (.int (iI v))], [], (hM m fi ar g, z)) = rB (stN (ar 0) x y u v) (hM m fi ar g, z) := by
  rw [b_X5_isStrapped_0]
  have b1 : 0 ≤ min x u ∧ min x u ≤ 7 := by omega
  have b2 : 0 ≤ min y v ∧ min y v ≤ 7 := by omega
  have c0 := hB (edI (min x u) (min y v) 0).toNat
  have c1 := hB (edI (min x u) (min y v) 1).toNat
  have d0 : 0 ≤ edI (min x u) (min y v) 0 ∧ edI (min x u) (min y v) 0 < 417 := by unfold edI; simp only [if_true]; omega
  have d1 : 0 ≤ edI (min x u) (min y v) 1 ∧ edI (min x u) (min y v) 1 < 417 := by unfold edI; simp only [show ((1:Int) = 0) = False by decide, if_false]; omega
  simp (disch := omega) only [Option.bind_some, va_rf_some, va_rf_none, bI_rI, bI_rB, bV_rV, bB_0, bB_1, iI_add, iI_sub, iI_mul, iI_neg, rI_of, rV_of, Int.reduceToNat, Int.neg_neg, mgR0, e_min, e_edge, iI_inj, mld0, rB_dec]
  unfold stN stB
  by_cases hy : y = v
  · simp only [if_pos hy]
  · simp only [if_neg hy]
/-- whether a strap lies between two cells of a placement -/
def crs (s : tRow) (sh r x y : Int) : Bool := an (fun a => an (fun b => nei (cX sh r x a) (cY sh r y a) (cX sh r x b) (cY sh r y b) && stN s (cX sh r x a) (cY sh r y a) (cX sh r x b) (cY sh r y b)) a) (shN sh)
theorem e_crosses (hB : RB (ar 0)) {sh r x y : Int} (hP : Spd fi ar sh r x y) (hI : ∀ k, k < shN sh → (0 ≤ cX sh r x k ∧ cX sh r x k ≤ 7) ∧ 0 ≤ cY sh r y k ∧ cY sh r y k ≤ 7) : t_Ev (t_pg G) t_hd Y_X5_crosses 0 ([some (.ref m), none, none], [], (hM m fi ar g, z)) = rB (crs (ar 0) sh r x y) (hM m fi ar g, z) := by
  rw [b_X5_crosses_0]
  have hN := (shN_b (sh := sh)).2
  obtain ⟨c', -, e⟩ := lp_x (N := shN sh) (F := fun k c => t_Ev (t_pg G) t_hd Y_X5_crosses 2 ([some (.ref m), some (.int (iI (k : Int))), c], [], (hM m fi ar g, z))) (X := fun _ => rI 1 (hM m fi ar g, z)) (I := fun _ => True)
    (p := fun a => an (fun b => nei (cX sh r x a) (cY sh r y a) (cX sh r x b) (cY sh r y b) && stN (ar 0) (cX sh r x a) (cY sh r y a) (cX sh r x b) (cY sh r y b)) a) (fun a ha c _ => by
      refine ⟨some (.int (iI (a : Int))), trivial, ?_⟩
      have ha' : (a : Int) < (shN sh : Int) := by omega
      try dsimp only
      rw [b_X5_crosses_2]
      simp (disch := omega) only [mgI6, mgI7, mgI13, mgI14, mgI15, mgI16, mgI17, mgI18, mgI19, mgI20, mgI21, mgI22, mgI23, mgI24, mgI25, mgI26, mgI27, Option.bind_some, va_rf_some, va_rf_none, bI_rI, bI_rB, bV_rV, bB_0, bB_1, iI_add, iI_sub, iI_mul, iI_neg, rI_of, rV_of, Int.reduceToNat, Int.neg_neg, iI_lt, iI_le, iI_inj, Int.toNat_natCast, Int.lt_irrefl, if_true, if_false, reduceIte, hP.1, ha']
      refine Eq.trans (lp_any (N := a) (r := rI 1 (hM m fi ar g, z)) (F := fun b => t_Ev (t_pg G) t_hd Y_X5_crosses 12 ([some (.ref m), some (.int (iI (a : Int))), some (.int (iI (b : Int)))], [], (hM m fi ar g, z))) (p := fun b => nei (cX sh r x a) (cY sh r y a) (cX sh r x b) (cY sh r y b) && stN (ar 0) (cX sh r x a) (cY sh r y a) (cX sh r x b) (cY sh r y b)) (fun b hb => ?_)) ?_
      · have hb' : (b : Int) < (a : Int) := by omega
        obtain ⟨⟨p1, p2⟩, p3, p4⟩ := hI a ha
        obtain ⟨⟨q1, q2⟩, q3, q4⟩ := hI b (by omega)
        obtain ⟨r1, r2⟩ := hP.2 a ha
        obtain ⟨s1, s2⟩ := hP.2 b (by omega)
        try dsimp only
        rw [b_X5_crosses_12]
        simp (disch := first | omega | exact hB) only [mK, mgI6, mgI7, mgI13, mgI14, mgI15, mgI16, mgI17, mgI18, mgI19, mgI20, mgI21, mgI22, mgI23, mgI24, mgI25, mgI26, mgI27, mgR0, mgR1, mgR2, mgR3, mgR4, mgR5, mgR8, mgR9, mgR10, mgR11, mgR12, Option.bind_some, va_rf_some, va_rf_none, bI_rI, bI_rB, bV_rV, bB_0, bB_1, iI_add, iI_sub, iI_mul, iI_neg, rI_of, rV_of, Int.reduceToNat, Int.neg_neg, iI_lt, iI_le, iI_inj, Int.toNat_natCast, Int.lt_irrefl, if_true, if_false, reduceIte, mld10, mld11, hb', r1, r2, s1, s2, e_areN, e_isStrapped]
        cases nei (cX sh r x a) (cY sh r y a) (cX sh r x b) (cY sh r y b) with
        | false => rfl
        | true =>
          cases stN (ar 0) (cX sh r x a) (cY sh r y a) (cX sh r x b) (cY sh r y b) with
          | false => rfl
          | true => rfl
      · try dsimp only
        rw [b_X5_crosses_12]
        simp (disch := omega) only [iI_lt, iI_le, iI_inj, Int.toNat_natCast, Int.lt_irrefl, if_true, if_false, reduceIte, Option.bind_some, va_rf_some, va_rf_none, bI_rI, bI_rB, bV_rV, bB_0, bB_1, iI_add, iI_sub, iI_mul, iI_neg, rI_of, rV_of, Int.reduceToNat, Int.neg_neg]
        (try rfl)) none trivial
  refine Eq.trans e ?_
  try dsimp only
  rw [b_X5_crosses_2]
  simp (disch := omega) only [mgI6, mgI7, mgI13, mgI14, mgI15, mgI16, mgI17, mgI18, mgI19, mgI20, mgI21, mgI22, mgI23, mgI24, mgI25, mgI26, mgI27, Option.bind_some, va_rf_some, va_rf_none, bI_rI, bI_rB, bV_rV, bB_0, bB_1, iI_add, iI_sub, iI_mul, iI_neg, rI_of, rV_of, Int.reduceToNat, Int.neg_neg, iI_lt, iI_le, iI_inj, Int.toNat_natCast, Int.lt_irrefl, if_true, if_false, reduceIte, hP.1]
  exact rB_if
/-- why a placement doesn't fit: 1 outside, 2 blocked, 3 covered, 4 across a strap; 0: it fits -/
def mf (s : tRow) (sh r x y : Int) : Int :=
  if an (fun k => !inB s (cX sh r x k) (cY sh r y k)) (shN sh) = true then 1
  else if an (fun k => decide (cI s (cX sh r x k) (cY sh r y k) = 1)) (shN sh) = true then 2
  else if an (fun k => decide (2 ≤ cI s (cX sh r x k) (cY sh r y k))) (shN sh) = true then 3
  else if crs s sh r x y = true then 4 else 0
theorem mf_b {s : tRow} {sh r x y : Int} : 0 ≤ mf s sh r x y ∧ mf s sh r x y ≤ 4 := by unfold mf; split <;> (try split) <;> (try split) <;> (try split) <;> omega
theorem e_misfit (hD : Dm (ar 0)) (hB : RB (ar 0)) {sh r x y : Int} (h1 : 0 ≤ sh) (h2 : sh ≤ 4) (h3 : 0 ≤ r) (h4 : r ≤ 3) (h5 : 0 ≤ x ∧ x ≤ 7) (h6 : 0 ≤ y ∧ y ≤ 7) : ∃ fi' ar', t_Ev (t_pg G) t_hd Y_X5_misfit 0 ([some (.ref m), some (.int (iI sh)), some (.int (iI r)), some (.int (iI x)), some (.int (iI y)), none], [], (hM m fi ar g, z)) = rI (mf (ar 0) sh r x y) (hM m fi' ar' g, z) ∧ Sc [17] [10, 11] fi ar fi' ar' ∧ Spd fi' ar' sh r x y := by
  obtain ⟨fi', ar', e, hS, hP⟩ := e_spreads (G := G) (m := m) (fi := fi) (ar := ar) (g := g) (z := z) (x := x) (y := y) h1 h2 h3 h4
  refine ⟨fi', ar', ?_, hS, hP⟩
  have h0 : ar' 0 = ar 0 := hS.2 0 (by decide)
  rw [← h0] at hD hB ⊢
  have hN := (shN_b (sh := sh)).2
  rw [b_X5_misfit_0]
  simp only [mK, Option.bind_some, va_rf_some, va_rf_none, bI_rI, bI_rB, bV_rV, bB_0, bB_1, iI_add, iI_sub, iI_mul, iI_neg, rI_of, rV_of, Int.reduceToNat, Int.neg_neg, e]
  refine Eq.trans (lp_any (N := shN sh) (r := rI 1 (hM m fi' ar' g, z)) (F := fun k => t_Ev (t_pg G) t_hd Y_X5_misfit 12 ([some (.ref m), some (.int (iI sh)), some (.int (iI r)), some (.int (iI x)), some (.int (iI y)), some (.int (iI (k : Int)))], [], (hM m fi' ar' g, z))) (p := fun k => !inB (ar' 0) (cX sh r x k) (cY sh r y k)) (fun k hk => ?_)) ?_
  · have hk' : (k : Int) < (shN sh : Int) := by omega
    obtain ⟨r1, r2⟩ := hP.2 k hk
    have b1 := cX_b (r := r) (x := x) hk
    have b2 := cY_b (r := r) (y := y) hk
    try dsimp only
    rw [b_X5_misfit_12]
    simp (disch := first | omega | exact hD) only [mK, mgI6, mgI7, mgI13, mgI14, mgI15, mgI16, mgI17, mgI18, mgI19, mgI20, mgI21, mgI22, mgI23, mgI24, mgI25, mgI26, mgI27, mgR0, mgR1, mgR2, mgR3, mgR4, mgR5, mgR8, mgR9, mgR10, mgR11, mgR12, Option.bind_some, va_rf_some, va_rf_none, bI_rI, bI_rB, bV_rV, bB_0, bB_1, iI_add, iI_sub, iI_mul, iI_neg, rI_of, rV_of, Int.reduceToNat, Int.neg_neg, iI_lt, iI_le, iI_inj, Int.toNat_natCast, Int.lt_irrefl, if_true, if_false, reduceIte, mld10, mld11, hk', r1, r2, hP.1, e_isInside]
    cases inB (ar' 0) (cX sh r x k) (cY sh r y k) with
    | false => rfl
    | true => rfl
  unfold mf
  cases g1 : an (fun k => !inB (ar' 0) (cX sh r x k) (cY sh r y k)) (shN sh) with
  | true => rfl
  | false =>
    have hI : ∀ k, k < shN sh → (0 ≤ cX sh r x k ∧ cX sh r x k ≤ 7) ∧ 0 ≤ cY sh r y k ∧ cY sh r y k ≤ 7 := fun k hk => by
      have := an_false.mp g1 k hk
      have hi : inB (ar' 0) (cX sh r x k) (cY sh r y k) = true := by simpa using this
      have := inB_iff.mp hi
      omega
    simp only [Bool.false_eq_true, if_false]
    rw [b_X5_misfit_12]
    simp (disch := omega) only [mK, mgI6, mgI7, mgI13, mgI14, mgI15, mgI16, mgI17, mgI18, mgI19, mgI20, mgI21, mgI22, mgI23, mgI24, mgI25, mgI26, mgI27, mgR0, mgR1, mgR2, mgR3, mgR4, mgR5, mgR8, mgR9, mgR10, mgR11, mgR12, Option.bind_some, va_rf_some, va_rf_none, bI_rI, bI_rB, bV_rV, bB_0, bB_1, iI_add, iI_sub, iI_mul, iI_neg, rI_of, rV_of, Int.reduceToNat, Int.neg_neg, iI_lt, iI_le, iI_inj, Int.toNat_natCast, Int.lt_irrefl, if_true, if_false, reduceIte, hP.1]
    refine Eq.trans (lp_any (N := shN sh) (r := rI 2 (hM m fi' ar' g, z)) (F := fun k => t_Ev (t_pg G) t_hd Y_X5_misfit 53 ([some (.ref m), some (.int (iI sh)), some (.int (iI r)), some (.int (iI x)), some (.int (iI y)), some (.int (iI (k : Int)))], [], (hM m fi' ar' g, z))) (p := fun k => decide (cI (ar' 0) (cX sh r x k) (cY sh r y k) = 1)) (fun k hk => ?_)) ?_
    · have hk' : (k : Int) < (shN sh : Int) := by omega
      obtain ⟨r1, r2⟩ := hP.2 k hk
      obtain ⟨⟨p1, p2⟩, p3, p4⟩ := hI k hk
      have b3 := hB.c (cX sh r x k) (cY sh r y k)
      try dsimp only
      rw [b_X5_misfit_53]
      simp (disch := omega) only [mK, mgI6, mgI7, mgI13, mgI14, mgI15, mgI16, mgI17, mgI18, mgI19, mgI20, mgI21, mgI22, mgI23, mgI24, mgI25, mgI26, mgI27, mgR0, mgR1, mgR2, mgR3, mgR4, mgR5, mgR8, mgR9, mgR10, mgR11, mgR12, Option.bind_some, va_rf_some, va_rf_none, bI_rI, bI_rB, bV_rV, bB_0, bB_1, iI_add, iI_sub, iI_mul, iI_neg, rI_of, rV_of, Int.reduceToNat, Int.neg_neg, iI_lt, iI_le, iI_inj, Int.toNat_natCast, Int.lt_irrefl, if_true, if_false, reduceIte, mld10, mld11, hk', r1, r2, hP.1, e_cell, decide_eq_true_eq]
      (try rfl)
    cases g2 : an (fun k => decide (cI (ar' 0) (cX sh r x k) (cY sh r y k) = 1)) (shN sh) with
    | true => rfl
    | false =>
      simp only [Bool.false_eq_true, if_false]
      rw [b_X5_misfit_53]
      simp (disch := omega) only [mK, mgI6, mgI7, mgI13, mgI14, mgI15, mgI16, mgI17, mgI18, mgI19, mgI20, mgI21, mgI22, mgI23, mgI24, mgI25, mgI26, mgI27, mgR0, mgR1, mgR2, mgR3, mgR4, mgR5, mgR8, mgR9, mgR10, mgR11, mgR12, Option.bind_some, va_rf_some, va_rf_none, bI_rI, bI_rB, bV_rV, bB_0, bB_1, iI_add, iI_sub, iI_mul, iI_neg, rI_of, rV_of, Int.reduceToNat, Int.neg_neg, iI_lt, iI_le, iI_inj, Int.toNat_natCast, Int.lt_irrefl, if_true, if_false, reduceIte, hP.1]
      refine Eq.trans (lp_any (N := shN sh) (r := rI 3 (hM m fi' ar' g, z)) (F := fun k => t_Ev (t_pg G) t_hd Y_X5_misfit 95 ([some (.ref m), some (.int (iI sh)), some (.int (iI r)), some (.int (iI x)), some (.int (iI y)), some (.int (iI (k : Int)))], [], (hM m fi' ar' g, z))) (p := fun k => decide (2 ≤ cI (ar' 0) (cX sh r x k) (cY sh r y k))) (fun k hk => ?_)) ?_
      · have hk' : (k : Int) < (shN sh : Int) := by omega
        obtain ⟨r1, r2⟩ := hP.2 k hk
        obtain ⟨⟨p1, p2⟩, p3, p4⟩ := hI k hk
        have b3 := hB.c (cX sh r x k) (cY sh r y k)
        try dsimp only
        rw [b_X5_misfit_95]
        simp (disch := omega) only [mK, mgI6, mgI7, mgI13, mgI14, mgI15, mgI16, mgI17, mgI18, mgI19, mgI20, mgI21, mgI22, mgI23, mgI24, mgI25, mgI26, mgI27, mgR0, mgR1, mgR2, mgR3, mgR4, mgR5, mgR8, mgR9, mgR10, mgR11, mgR12, Option.bind_some, va_rf_some, va_rf_none, bI_rI, bI_rB, bV_rV, bB_0, bB_1, iI_add, iI_sub, iI_mul, iI_neg, rI_of, rV_of, Int.reduceToNat, Int.neg_neg, iI_lt, iI_le, iI_inj, Int.toNat_natCast, Int.lt_irrefl, if_true, if_false, reduceIte, mld10, mld11, hk', r1, r2, hP.1, e_cell, decide_eq_true_eq]
        by_cases hc : cI (ar' 0) (cX sh r x k) (cY sh r y k) < 2
        · rw [if_pos hc, if_neg (by omega)]; rfl
        · rw [if_neg hc, if_pos (by omega)]
      cases g3 : an (fun k => decide (2 ≤ cI (ar' 0) (cX sh r x k) (cY sh r y k))) (shN sh) with
      | true => rfl
      | false =>
        simp only [Bool.false_eq_true, if_false]
        rw [b_X5_misfit_95]
        simp (disch := first | omega | exact hB | exact hP | exact hI) only [mK, mgI6, mgI7, mgI13, mgI14, mgI15, mgI16, mgI17, mgI18, mgI19, mgI20, mgI21, mgI22, mgI23, mgI24, mgI25, mgI26, mgI27, mgR0, mgR1, mgR2, mgR3, mgR4, mgR5, mgR8, mgR9, mgR10, mgR11, mgR12, Option.bind_some, va_rf_some, va_rf_none, bI_rI, bI_rB, bV_rV, bB_0, bB_1, iI_add, iI_sub, iI_mul, iI_neg, rI_of, rV_of, Int.reduceToNat, Int.neg_neg, iI_lt, iI_le, iI_inj, Int.toNat_natCast, Int.lt_irrefl, if_true, if_false, reduceIte, hP.1, e_crosses hB hP hI]
        cases crs (ar' 0) sh r x y with
        | true => rfl
        | false => rfl
end MF
