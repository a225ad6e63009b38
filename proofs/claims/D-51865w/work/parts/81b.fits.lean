/-! ===== the component: whether a placement fits, its points ===== -/
/-- a strap to the right of a cell of a placement, or below it, with another of its cells behind -/
def arS (s : tRow) (sh r x y : Int) (k o : Nat) : Bool :=
  if cX sh r x o - cX sh r x k = 1 ∧ cY sh r y o - cY sh r y k = 0 then stB s (cX sh r x k) (cY sh r y k) 0
  else decide (cX sh r x o - cX sh r x k = 0) && (decide (cY sh r y o - cY sh r y k = 1) && stB s (cX sh r x k) (cY sh r y k) 1)
def crC (s : tRow) (sh r x y : Int) : Bool := an (fun k => an (fun o => arS s sh r x y k o) (shN sh)) (shN sh)
theorem nei_iff {x y u v : Int} : nei x y u v = true ↔ (u = x + 1 ∧ v = y) ∨ (x = u + 1 ∧ v = y) ∨ (u = x ∧ v = y + 1) ∨ (u = x ∧ y = v + 1) := by
  unfold nei aI
  rw [decide_eq_true_iff]
  split <;> split <;> omega
theorem an_congr' {p q : Nat → Bool} {n : Nat} (h : ∀ k, k < n → (p k = true ↔ q k = true)) : an p n = an q n := an_congr fun k hk => by
  have := h k hk
  cases hp : p k <;> cases hq : q k <;> simp [hp, hq] at this ⊢
theorem crC_crs {s : tRow} {sh r x y : Int} : crC s sh r x y = crs s sh r x y := by
  have st : ∀ {a b c d : Int}, nei a b c d = true → stN s a b c d = true → ((c = a + 1 ∧ d = b ∧ stB s a b 0 = true) ∨ (a = c + 1 ∧ d = b ∧ stB s c d 0 = true) ∨ (c = a ∧ d = b + 1 ∧ stB s a b 1 = true) ∨ (c = a ∧ b = d + 1 ∧ stB s c d 1 = true)) := fun {a b c d} h1 h2 => by
    unfold stN at h2
    rcases nei_iff.mp h1 with ⟨rfl, rfl⟩ | ⟨rfl, rfl⟩ | ⟨rfl, rfl⟩ | ⟨rfl, rfl⟩
    · rw [if_pos rfl, show min a (a + 1) = a by omega, show min d d = d by omega] at h2
      exact Or.inl ⟨rfl, rfl, h2⟩
    · rw [if_pos rfl, show min (c + 1) c = c by omega, show min d d = d by omega] at h2
      exact Or.inr (Or.inl ⟨rfl, rfl, h2⟩)
    · rw [if_neg (by omega), show min c c = c by omega, show min b (b + 1) = b by omega] at h2
      exact Or.inr (Or.inr (Or.inl ⟨rfl, rfl, h2⟩))
    · rw [if_neg (by omega), show min c c = c by omega, show min (d + 1) d = d by omega] at h2
      exact Or.inr (Or.inr (Or.inr ⟨rfl, rfl, h2⟩))
  have ts : ∀ {a b c d : Int}, ((c = a + 1 ∧ d = b ∧ stB s a b 0 = true) ∨ (a = c + 1 ∧ d = b ∧ stB s c d 0 = true) ∨ (c = a ∧ d = b + 1 ∧ stB s a b 1 = true) ∨ (c = a ∧ b = d + 1 ∧ stB s c d 1 = true)) → (nei a b c d && stN s a b c d) = true := fun {a b c d} h => by
    rw [Bool.and_eq_true, nei_iff]
    unfold stN
    rcases h with ⟨rfl, rfl, h⟩ | ⟨rfl, rfl, h⟩ | ⟨rfl, rfl, h⟩ | ⟨rfl, rfl, h⟩
    · exact ⟨Or.inl ⟨rfl, rfl⟩, by rw [if_pos rfl, show min a (a + 1) = a by omega, show min d d = d by omega]; exact h⟩
    · exact ⟨Or.inr (Or.inl ⟨rfl, rfl⟩), by rw [if_pos rfl, show min (c + 1) c = c by omega, show min d d = d by omega]; exact h⟩
    · exact ⟨Or.inr (Or.inr (Or.inl ⟨rfl, rfl⟩)), by rw [if_neg (by omega), show min c c = c by omega, show min b (b + 1) = b by omega]; exact h⟩
    · exact ⟨Or.inr (Or.inr (Or.inr ⟨rfl, rfl⟩)), by rw [if_neg (by omega), show min c c = c by omega, show min (d + 1) d = d by omega]; exact h⟩
  have as : ∀ {k o : Nat}, arS s sh r x y k o = true ↔ (cX sh r x o = cX sh r x k + 1 ∧ cY sh r y o = cY sh r y k ∧ stB s (cX sh r x k) (cY sh r y k) 0 = true) ∨ (cX sh r x o = cX sh r x k ∧ cY sh r y o = cY sh r y k + 1 ∧ stB s (cX sh r x k) (cY sh r y k) 1 = true) := fun {k o} => by
    unfold arS
    split
    · rename_i h
      constructor
      · exact fun z => Or.inl ⟨by omega, by omega, z⟩
      · rintro (⟨_, _, z⟩ | ⟨_, _, z⟩)
        · exact z
        · omega
    · rename_i h
      simp only [Bool.and_eq_true, decide_eq_true_eq]
      constructor
      · exact fun ⟨z1, z2, z3⟩ => Or.inr ⟨by omega, by omega, z3⟩
      · rintro (⟨_, _, z⟩ | ⟨_, _, z⟩)
        · exact absurd ⟨by omega, by omega⟩ h
        · exact ⟨by omega, by omega, z⟩
  have e : crC s sh r x y = true ↔ crs s sh r x y = true := by
    unfold crC crs
    rw [an_iff, an_iff]
    constructor
    · rintro ⟨k, hk, h⟩
      obtain ⟨o, ho, h⟩ := an_iff.mp h
      have h := as.mp h
      have hne : k ≠ o := fun z => by subst z; omega
      rcases Nat.lt_or_gt_of_ne hne with hlt | hlt
      · refine ⟨o, ho, an_iff.mpr ⟨k, hlt, ts ?_⟩⟩
        rcases h with ⟨h1, h2, h3⟩ | ⟨h1, h2, h3⟩
        · exact Or.inr (Or.inl ⟨h1, h2.symm, h3⟩)
        · exact Or.inr (Or.inr (Or.inr ⟨h1.symm, h2, h3⟩))
      · refine ⟨k, hk, an_iff.mpr ⟨o, hlt, ts ?_⟩⟩
        rcases h with ⟨h1, h2, h3⟩ | ⟨h1, h2, h3⟩
        · exact Or.inl ⟨h1, h2, h3⟩
        · exact Or.inr (Or.inr (Or.inl ⟨h1, h2, h3⟩))
    · rintro ⟨a, ha, h⟩
      obtain ⟨b, hb, h⟩ := an_iff.mp h
      rw [Bool.and_eq_true] at h
      rcases st h.1 h.2 with ⟨h1, h2, h3⟩ | ⟨h1, h2, h3⟩ | ⟨h1, h2, h3⟩ | ⟨h1, h2, h3⟩
      · exact ⟨a, ha, an_iff.mpr ⟨b, by omega, as.mpr (Or.inl ⟨h1, h2, h3⟩)⟩⟩
      · exact ⟨b, by omega, an_iff.mpr ⟨a, ha, as.mpr (Or.inl ⟨h1, h2.symm, h3⟩)⟩⟩
      · exact ⟨a, ha, an_iff.mpr ⟨b, by omega, as.mpr (Or.inr ⟨h1, h2, h3⟩)⟩⟩
      · exact ⟨b, by omega, an_iff.mpr ⟨a, ha, as.mpr (Or.inr ⟨h1.symm, h2, h3⟩)⟩⟩
  cases h1 : crC s sh r x y <;> cases h2 : crs s sh r x y <;> simp [h1, h2] at e ⊢
/-- .. the same cell by cell, for one reason -/
def tcB (s : tRow) (sh r x y w : Int) (k : Nat) : Bool :=
  if w = 1 then !inB s (cX sh r x k) (cY sh r y k)
  else inB s (cX sh r x k) (cY sh r y k) && (if w = 2 then decide (cI s (cX sh r x k) (cY sh r y k) = 1) else decide (2 ≤ cI s (cX sh r x k) (cY sh r y k)))
section FT
variable {G : tG} {D M : Nat → Prop} {hs : tHS} {a q np : Nat} {s : tRow} {sh r x y : Int}
theorem c_touches (H : GR G D M hs.1 a s np) (C : CH G D hs.1) (P : PL G D hs.1 q sh r x y) (hD : Dm s) (hB : RB s) {w : Int} (h1 : 0 ≤ sh) (h2 : sh ≤ 4) (h3 : 0 ≤ r) (h4 : r ≤ 3) (h5 : 0 ≤ x ∧ x ≤ 7) (h6 : 0 ≤ y ∧ y ≤ 7) (h7 : 1 ≤ w) (h8 : w ≤ 3) : t_Ev (t_pg G) t_hd Y_X3_touches 0 ([some (.ref a), some (.ref q), some (.int (iI w)), none, none, none, none], [], hs) = rB (an (tcB s sh r x y w) (shN sh)) hs := by
  have hN := shN_b (sh := sh)
  rw [b_X3_touches_0]
  obtain ⟨c', -, e⟩ := lp_x (N := shN sh) (σ := Option Value × Option Value × Option Value) (I := fun _ => True) (X := fun _ => rI 1 hs) (p := tcB s sh r x y w) (F := fun k c => t_Ev (t_pg G) t_hd Y_X3_touches 2 ([some (.ref a), some (.ref q), some (.int (iI w)), some (.int (iI (k : Int))), c.1, c.2.1, c.2.2], [], hs)) (fun k hk c _ => by
    have hk' : (k : Int) < (shN sh : Int) := by omega
    have b1 := cX_b (r := r) (x := x) hk
    have b2 := cY_b (r := r) (y := y) hk
    try dsimp only
    rw [b_X3_touches_2]
    simp (disch := omega) only [Option.bind_some, va_rf_some, va_rf_none, bI_rI, bI_rB, bV_rV, bB_0, bB_1, iI_add, iI_sub, iI_mul, iI_neg, rI_of, rV_of, Int.reduceToNat, Int.neg_neg, iI_lt, iI_le, iI_inj, Int.toNat_natCast, Int.lt_irrefl, if_true, if_false, reduceIte, P.r0, C.k h1 h2, c_cells C h1 h2, hk', P.k, H.k, c_columnOf C P h1 h2 (show (0:Int) ≤ k by omega) hk' h3 h4, c_rowOf C P h1 h2 (show (0:Int) ≤ k by omega) hk' h3 h4, c_isInside H hD]
    generalize hX : cX sh r x k = X at *
    generalize hY : cY sh r y k = Y at *
    cases hi : inB s X Y with
    | false =>
      refine ⟨(some (.int (iI X)), some (.int (iI Y)), if w = 1 then none else some (.int (iI (-1)))), trivial, ?_⟩
      simp only [if_true]
      rw [b_X3_touches_50]
      simp (disch := omega) only [Option.bind_some, va_rf_some, va_rf_none, bI_rI, bI_rB, bV_rV, bB_0, bB_1, iI_add, iI_sub, iI_mul, iI_neg, rI_of, rV_of, Int.reduceToNat, Int.neg_neg, iI_inj, H.k, c_isInside H hD, hi, if_true]
      unfold tcB
      rw [hX, hY, hi]
      by_cases c1 : w = 1
      · simp [c1]
      · simp only [if_neg c1, Bool.false_and, Bool.false_eq_true, if_false]
        rw [b_X3_touches_68]
        simp (disch := omega) only [Option.bind_some, va_rf_some, va_rf_none, bI_rI, bI_rB, bV_rV, bB_0, bB_1, iI_add, iI_sub, iI_mul, iI_neg, rI_of, rV_of, Int.reduceToNat, Int.neg_neg, iI_inj, iI_lt]
        rcases (show w = 2 ∨ w = 3 by omega) with rfl | rfl <;> rfl
    | true =>
      have hi' := inB_iff.mp hi
      have hd := hD.1
      have hd2 := hD.2
      have hc := hB.c X Y
      have hb := enc_b hc.1 hc.2
      refine ⟨(some (.int (iI X)), some (.int (iI Y)), some (.int (iI (enc (cI s X Y))))), trivial, ?_⟩
      simp (disch := omega) only [Option.bind_some, va_rf_some, va_rf_none, bI_rI, bI_rB, bV_rV, bB_0, bB_1, iI_add, iI_sub, iI_mul, iI_neg, rI_of, rV_of, Int.reduceToNat, Int.neg_neg, H.k, c_cell H, Bool.true_eq_false, if_false]
      rw [b_X3_touches_50]
      simp (disch := omega) only [Option.bind_some, va_rf_some, va_rf_none, bI_rI, bI_rB, bV_rV, bB_0, bB_1, iI_add, iI_sub, iI_mul, iI_neg, rI_of, rV_of, Int.reduceToNat, Int.neg_neg, iI_inj, H.k, c_isInside H hD, hi, Bool.true_eq_false, if_false]
      unfold tcB
      rw [hX, hY, hi]
      rcases (show w = 1 ∨ w = 2 ∨ w = 3 by omega) with rfl | rfl | rfl
      · simp only [if_true, Bool.not_true, Bool.false_eq_true, if_false]
        rw [b_X3_touches_68]
        simp (disch := omega) only [Option.bind_some, va_rf_some, va_rf_none, bI_rI, bI_rB, bV_rV, bB_0, bB_1, iI_add, iI_sub, iI_mul, iI_neg, rI_of, rV_of, Int.reduceToNat, Int.neg_neg, iI_inj]
        (try rfl)
      · simp only [show ((2:Int) = 1) = False by decide, if_false, if_true, Bool.true_and, decide_eq_true_eq]
        rw [b_X3_touches_68]
        simp (disch := omega) only [Option.bind_some, va_rf_some, va_rf_none, bI_rI, bI_rB, bV_rV, bB_0, bB_1, iI_add, iI_sub, iI_mul, iI_neg, rI_of, rV_of, Int.reduceToNat, Int.neg_neg, iI_inj, enc_bl, show ((2:Int) = 3) = False by decide, if_false, if_true]
        (try rfl)
      · simp only [show ((3:Int) = 1) = False by decide, show ((3:Int) = 2) = False by decide, if_false, Bool.true_and, decide_eq_true_eq]
        rw [b_X3_touches_68]
        simp (disch := omega) only [Option.bind_some, va_rf_some, va_rf_none, bI_rI, bI_rB, bV_rV, bB_0, bB_1, iI_add, iI_sub, iI_mul, iI_neg, rI_of, rV_of, Int.reduceToNat, Int.neg_neg, iI_inj, iI_lt, enc_c, show ((3:Int) = 2) = False by decide, if_false, if_true]
        by_cases c : cI s X Y < 2
        · rw [if_pos c, if_neg (by omega)]; rfl
        · rw [if_neg c, if_pos (by omega)]) (none, none, none) trivial
  refine Eq.trans e ?_
  try dsimp only
  rw [b_X3_touches_2]
  simp (disch := omega) only [Option.bind_some, va_rf_some, va_rf_none, bI_rI, bI_rB, bV_rV, bB_0, bB_1, iI_add, iI_sub, iI_mul, iI_neg, rI_of, rV_of, Int.reduceToNat, Int.neg_neg, iI_lt, iI_le, iI_inj, Int.toNat_natCast, Int.lt_irrefl, if_true, if_false, reduceIte, P.r0, C.k h1 h2, c_cells C h1 h2]
  exact rB_if
theorem c_areStrapped (H : GR G D M hs.1 a s np) (C : CH G D hs.1) (P : PL G D hs.1 q sh r x y) (h1 : 0 ≤ sh) (h2 : sh ≤ 4) (h3 : 0 ≤ r) (h4 : r ≤ 3) (hI : ∀ k, k < shN sh → (0 ≤ cX sh r x k ∧ cX sh r x k ≤ 7) ∧ 0 ≤ cY sh r y k ∧ cY sh r y k ≤ 7) {k o : Nat} (hk : k < shN sh) (ho : o < shN sh) : t_Ev (t_pg G) t_hd Y_X3_areStrapped 0 ([some (.ref a), some (.ref q), some (.int (iI (k : Int))), some (.int (iI (o : Int))), none, none, none, none], [], hs) = rB (arS s sh r x y k o) hs := by
  have p1 := hI k hk
  have p2 := hI o ho
  have hk' : (k : Int) < (shN sh : Int) := by omega
  have ho' : (o : Int) < (shN sh : Int) := by omega
  rw [b_X3_areStrapped_0]
  simp only [Option.bind_some, va_rf_some, va_rf_none, bI_rI, bI_rB, bV_rV, bB_0, bB_1, iI_add, iI_sub, iI_mul, iI_neg, rI_of, rV_of, Int.reduceToNat, Int.neg_neg, P.k, c_columnOf C P h1 h2 (show (0:Int) ≤ k by omega) hk' h3 h4, c_rowOf C P h1 h2 (show (0:Int) ≤ k by omega) hk' h3 h4, c_columnOf C P h1 h2 (show (0:Int) ≤ o by omega) ho' h3 h4, c_rowOf C P h1 h2 (show (0:Int) ≤ o by omega) ho' h3 h4, Int.toNat_natCast]
  unfold arS
  generalize cX sh r x k = X at *
  generalize cY sh r y k = Y at *
  generalize cX sh r x o = U at *
  generalize cY sh r y o = V at *
  have t55 : ∀ (v1 v2 v3 : Option Value), ¬ (U - X = 1 ∧ V - Y = 0) → t_Ev (t_pg G) t_hd Y_X3_areStrapped 55 ([some (.ref a), v1, v2, v3, some (.int (iI X)), some (.int (iI Y)), some (.int (iI (U - X))), some (.int (iI (V - Y)))], [], hs) = rB (decide (U - X = 0) && (decide (V - Y = 1) && stB s X Y 1)) hs := fun v1 v2 v3 _ => by
    rw [b_X3_areStrapped_55]
    simp (disch := omega) only [Option.bind_some, va_rf_some, va_rf_none, bI_rI, bI_rB, bV_rV, bB_0, bB_1, iI_add, iI_sub, iI_mul, iI_neg, rI_of, rV_of, Int.reduceToNat, Int.neg_neg, iI_inj, H.k, c_isStrapped H]
    by_cases c1 : U - X = 0
    · by_cases c2 : V - Y = 1
      · simp only [if_pos c1, if_pos c2, decide_eq_true c1, decide_eq_true c2, Bool.true_and]
        cases stB s X Y 1 <;> rfl
      · simp only [if_pos c1, if_neg c2, decide_eq_true c1, decide_eq_false c2, Bool.true_and, Bool.false_and]
        (try rfl)
    · simp only [if_neg c1, decide_eq_false c1, Bool.false_and]
      (try rfl)
  simp (disch := omega) only [iI_inj]
  by_cases c1 : U - X = 1
  · by_cases c2 : V - Y = 0
    · rw [if_pos c1, if_pos c2, if_pos ⟨c1, c2⟩]
      simp (disch := omega) only [Option.bind_some, va_rf_some, va_rf_none, bI_rI, bI_rB, bV_rV, bB_0, bB_1, iI_add, iI_sub, iI_mul, iI_neg, rI_of, rV_of, Int.reduceToNat, Int.neg_neg, H.k, c_isStrapped H]
      rw [if_pos bB_ok]
      rfl
    · rw [if_pos c1, if_neg c2, if_neg (fun z => c2 z.2)]
      exact t55 _ _ _ fun z => c2 z.2
  · rw [if_neg c1, if_neg (fun z => c1 z.1)]
    exact t55 _ _ _ fun z => c1 z.1
theorem c_crossesStrap (H : GR G D M hs.1 a s np) (C : CH G D hs.1) (P : PL G D hs.1 q sh r x y) (h1 : 0 ≤ sh) (h2 : sh ≤ 4) (h3 : 0 ≤ r) (h4 : r ≤ 3) (hI : ∀ k, k < shN sh → (0 ≤ cX sh r x k ∧ cX sh r x k ≤ 7) ∧ 0 ≤ cY sh r y k ∧ cY sh r y k ≤ 7) : t_Ev (t_pg G) t_hd Y_X3_crossesStrap 0 ([some (.ref a), some (.ref q), none, none], [], hs) = rB (crs s sh r x y) hs := by
  have hN := shN_b (sh := sh)
  rw [← crC_crs, b_X3_crossesStrap_0]
  obtain ⟨c', -, e⟩ := lp_x (N := shN sh) (σ := Option Value) (I := fun _ => True) (X := fun _ => rI 1 hs) (p := fun k => an (fun o => arS s sh r x y k o) (shN sh)) (F := fun k c => t_Ev (t_pg G) t_hd Y_X3_crossesStrap 2 ([some (.ref a), some (.ref q), some (.int (iI (k : Int))), c], [], hs)) (fun k hk c _ => by
    have hk' : (k : Int) < (shN sh : Int) := by omega
    refine ⟨some (.int (iI (shN sh))), trivial, ?_⟩
    try dsimp only
    rw [b_X3_crossesStrap_2]
    simp (disch := omega) only [Option.bind_some, va_rf_some, va_rf_none, bI_rI, bI_rB, bV_rV, bB_0, bB_1, iI_add, iI_sub, iI_mul, iI_neg, rI_of, rV_of, Int.reduceToNat, Int.neg_neg, iI_lt, iI_le, iI_inj, Int.toNat_natCast, Int.lt_irrefl, if_true, if_false, reduceIte, P.r0, C.k h1 h2, c_cells C h1 h2, hk']
    refine Eq.trans (lp_any (N := shN sh) (r := rI 1 hs) (p := fun o => arS s sh r x y k o) (F := fun o => t_Ev (t_pg G) t_hd Y_X3_crossesStrap 15 ([some (.ref a), some (.ref q), some (.int (iI (k : Int))), some (.int (iI (o : Int)))], [], hs)) (fun o ho => ?_)) ?_
    · have ho' : (o : Int) < (shN sh : Int) := by omega
      try dsimp only
      rw [b_X3_crossesStrap_15]
      simp (disch := omega) only [Option.bind_some, va_rf_some, va_rf_none, bI_rI, bI_rB, bV_rV, bB_0, bB_1, iI_add, iI_sub, iI_mul, iI_neg, rI_of, rV_of, Int.reduceToNat, Int.neg_neg, iI_lt, iI_le, iI_inj, Int.toNat_natCast, Int.lt_irrefl, if_true, if_false, reduceIte, P.r0, C.k h1 h2, c_cells C h1 h2, ho', H.k, c_areStrapped H C P h1 h2 h3 h4 hI hk ho]
      cases arS s sh r x y k o <;> rfl
    · try dsimp only
      rw [b_X3_crossesStrap_15]
      simp (disch := omega) only [Option.bind_some, va_rf_some, va_rf_none, bI_rI, bI_rB, bV_rV, bB_0, bB_1, iI_add, iI_sub, iI_mul, iI_neg, rI_of, rV_of, Int.reduceToNat, Int.neg_neg, iI_lt, iI_le, iI_inj, Int.toNat_natCast, Int.lt_irrefl, if_true, if_false, reduceIte, P.r0, C.k h1 h2, c_cells C h1 h2]
      (try rfl)) none trivial
  refine Eq.trans e ?_
  try dsimp only
  rw [b_X3_crossesStrap_2]
  simp (disch := omega) only [Option.bind_some, va_rf_some, va_rf_none, bI_rI, bI_rB, bV_rV, bB_0, bB_1, iI_add, iI_sub, iI_mul, iI_neg, rI_of, rV_of, Int.reduceToNat, Int.neg_neg, iI_lt, iI_le, iI_inj, Int.toNat_natCast, Int.lt_irrefl, if_true, if_false, reduceIte, P.r0, C.k h1 h2, c_cells C h1 h2]
  exact rB_if
theorem c_reasonAgainst (H : GR G D M hs.1 a s np) (C : CH G D hs.1) (P : PL G D hs.1 q sh r x y) (hD : Dm s) (hB : RB s) (h1 : 0 ≤ sh) (h2 : sh ≤ 4) (h3 : 0 ≤ r) (h4 : r ≤ 3) (h5 : 0 ≤ x ∧ x ≤ 7) (h6 : 0 ≤ y ∧ y ≤ 7) : t_Ev (t_pg G) t_hd Y_X3_reasonAgainst 0 ([some (.ref a), some (.ref q), none], [], hs) = rI (mf s sh r x y) hs := by
  have t : ∀ w : Int, 1 ≤ w → w ≤ 3 → t_Ev (t_pg G) t_hd Y_X3_reasonAgainst 2 ([some (.ref a), some (.ref q), some (.int (iI w))], [], hs) = if an (tcB s sh r x y w) (shN sh) = true then rI w hs else t_Ev (t_pg G) t_hd Y_X3_reasonAgainst 2 ([some (.ref a), some (.ref q), some (.int (iI (w + 1)))], [], hs) := fun w g1 g2 => by
    rw [b_X3_reasonAgainst_2]
    simp (disch := omega) only [Option.bind_some, va_rf_some, va_rf_none, bI_rI, bI_rB, bV_rV, bB_0, bB_1, iI_add, iI_sub, iI_mul, iI_neg, rI_of, rV_of, Int.reduceToNat, Int.neg_neg, iI_lt, H.k, c_touches H C P hD hB h1 h2 h3 h4 h5 h6 g1 g2, show (3 < w) = False by simp; omega, if_false]
    cases an (tcB s sh r x y w) (shN sh) <;> rfl
  rw [b_X3_reasonAgainst_0, t 1 (by decide) (by decide)]
  unfold mf
  rw [show an (tcB s sh r x y 1) (shN sh) = an (fun k => !inB s (cX sh r x k) (cY sh r y k)) (shN sh) from rfl]
  cases g1 : an (fun k => !inB s (cX sh r x k) (cY sh r y k)) (shN sh) with
  | true => rfl
  | false =>
    have hi : ∀ k, k < shN sh → inB s (cX sh r x k) (cY sh r y k) = true := fun k hk => by
      have := an_false.mp g1 k hk
      simpa using this
    have hd := hD.1
    have hd2 := hD.2
    have hI : ∀ k, k < shN sh → (0 ≤ cX sh r x k ∧ cX sh r x k ≤ 7) ∧ 0 ≤ cY sh r y k ∧ cY sh r y k ≤ 7 := fun k hk => by
      have := inB_iff.mp (hi k hk)
      omega
    have e2 : an (tcB s sh r x y 2) (shN sh) = an (fun k => decide (cI s (cX sh r x k) (cY sh r y k) = 1)) (shN sh) := an_congr fun k hk => by
      unfold tcB
      rw [hi k hk]
      simp
    have e3 : an (tcB s sh r x y 3) (shN sh) = an (fun k => decide (2 ≤ cI s (cX sh r x k) (cY sh r y k))) (shN sh) := an_congr fun k hk => by
      unfold tcB
      rw [hi k hk]
      simp
    simp only [Bool.false_eq_true, if_false, show (1:Int) + 1 = 2 from rfl]
    rw [t 2 (by decide) (by decide), e2]
    cases an (fun k => decide (cI s (cX sh r x k) (cY sh r y k) = 1)) (shN sh) with
    | true => rfl
    | false =>
      simp only [Bool.false_eq_true, if_false, show (2:Int) + 1 = 3 from rfl]
      rw [t 3 (by decide) (by decide), e3]
      cases an (fun k => decide (2 ≤ cI s (cX sh r x k) (cY sh r y k))) (shN sh) with
      | true => rfl
      | false =>
        simp only [Bool.false_eq_true, if_false, show (3:Int) + 1 = 4 from rfl]
        rw [b_X3_reasonAgainst_2]
        simp (disch := omega) only [Option.bind_some, va_rf_some, va_rf_none, bI_rI, bI_rB, bV_rV, bB_0, bB_1, iI_add, iI_sub, iI_mul, iI_neg, rI_of, rV_of, Int.reduceToNat, Int.neg_neg, iI_lt, H.k, c_crossesStrap H C P h1 h2 h3 h4 hI, show ((3:Int) < 4) = True by decide, if_true]
        cases crs s sh r x y <;> rfl
theorem c_isFitting (H : GR G D M hs.1 a s np) (C : CH G D hs.1) (P : PL G D hs.1 q sh r x y) (hD : Dm s) (hB : RB s) (h1 : 0 ≤ sh) (h2 : sh ≤ 4) (h3 : 0 ≤ r) (h4 : r ≤ 3) (h5 : 0 ≤ x ∧ x ≤ 7) (h6 : 0 ≤ y ∧ y ≤ 7) : t_Ev (t_pg G) t_hd Y_X3_isFitting 0 ([some (.ref a), some (.ref q)], [], hs) = rB (decide (mf s sh r x y = 0)) hs := by
  have hm := mf_b (s := s) (sh := sh) (r := r) (x := x) (y := y)
  rw [b_X3_isFitting_0]
  simp (disch := omega) only [Option.bind_some, va_rf_some, va_rf_none, bI_rI, bI_rB, bV_rV, bB_0, bB_1, iI_add, iI_sub, iI_mul, iI_neg, rI_of, rV_of, Int.reduceToNat, Int.neg_neg, H.k, c_reasonAgainst H C P hD hB h1 h2 h3 h4 h5 h6, iI_inj, rB_dec]
theorem c_pointsOf (H : GR G D M hs.1 a s np) (C : CH G D hs.1) (P : PL G D hs.1 q sh r x y) (hD : Dm s) (hB : RB s) (h1 : 0 ≤ sh) (h2 : sh ≤ 4) (h3 : 0 ≤ r) (h4 : r ≤ 3) (h5 : 0 ≤ x ∧ x ≤ 7) (h6 : 0 ≤ y ∧ y ≤ 7) : t_Ev (t_pg G) t_hd Y_X3_pointsOf 0 ([some (.ref a), some (.ref q), none, none, none, none], [], hs) = rI (pts s sh r y) hs := by
  have hN := shN_b (sh := sh)
  have hd := hD.2
  have hn := tn_of hd.1
  rw [b_X3_pointsOf_0]
  simp only [Option.bind_some, va_rf_some, va_rf_none, bI_rI, bI_rB, bV_rV, bB_0, bB_1, iI_add, iI_sub, iI_mul, iI_neg, rI_of, rV_of, Int.reduceToNat, Int.neg_neg, P.r0, C.k h1 h2, c_cells C h1 h2]
  obtain ⟨c', e'⟩ := lp_e0 (N := (s 1).toNat) (σ := Option Value × Option Value) (F := fun k c => t_Ev (t_pg G) t_hd Y_X3_pointsOf 10 ([some (.ref a), some (.ref q), some (.int (iI ((shN sh : Int) + sm (fun row => ptr s sh r y row) k))), some (.int (iI (k : Int))), c.1, c.2], [], hs)) (fun k hk c => by
    have hk' : (k : Int) < s 1 := by omega
    refine ⟨(some (.int (iI (nIn sh r y k))), some (.int (iI (shN sh)))), ?_⟩
    try dsimp only
    rw [b_X3_pointsOf_10]
    simp (disch := omega) only [Option.bind_some, va_rf_some, va_rf_none, bI_rI, bI_rB, bV_rV, bB_0, bB_1, iI_add, iI_sub, iI_mul, iI_neg, rI_of, rV_of, Int.reduceToNat, Int.neg_neg, iI_lt, iI_le, iI_inj, Int.toNat_natCast, Int.lt_irrefl, if_true, if_false, reduceIte, H.i2, hk']
    refine Eq.trans (lp_up (N := shN sh) (F := fun j => t_Ev (t_pg G) t_hd Y_X3_pointsOf 24 ([some (.ref a), some (.ref q), some (.int (iI ((shN sh : Int) + sm (fun row => ptr s sh r y row) k))), some (.int (iI (k : Int))), some (.int (iI (sm (fun q => bB (decide (cY sh r y q = k))) j))), some (.int (iI (j : Int)))], [], hs)) (fun j hj => ?_)) ?_
    · have hj' : (j : Int) < (shN sh : Int) := by omega
      have b2 := cY_b (r := r) (y := y) hj
      try dsimp only
      rw [b_X3_pointsOf_24]
      simp (disch := omega) only [Option.bind_some, va_rf_some, va_rf_none, bI_rI, bI_rB, bV_rV, bB_0, bB_1, iI_add, iI_sub, iI_mul, iI_neg, rI_of, rV_of, Int.reduceToNat, Int.neg_neg, iI_lt, iI_le, iI_inj, Int.toNat_natCast, Int.lt_irrefl, if_true, if_false, reduceIte, P.r0, C.k h1 h2, c_cells C h1 h2, hj', P.k, c_rowOf C P h1 h2 (show (0:Int) ≤ j by omega) hj' h3 h4, sm]
      by_cases c : cY sh r y j = k
      · rw [if_pos c, decide_eq_true c]; rfl
      · rw [if_neg c, decide_eq_false c, bB_f]; rfl
    · have n1 := nIn_b (sh := sh) (r := r) (y := y) (row := k)
      have n2 := emi_b hD (y := k)
      try dsimp only
      rw [b_X3_pointsOf_24]
      simp only [show sm (fun q => bB (decide (cY sh r y q = k))) (shN sh) = nIn sh r y k from rfl]
      simp (disch := first | omega | exact hD | exact hB) only [Option.bind_some, va_rf_some, va_rf_none, bI_rI, bI_rB, bV_rV, bB_0, bB_1, iI_add, iI_sub, iI_mul, iI_neg, rI_of, rV_of, Int.reduceToNat, Int.neg_neg, iI_lt, iI_le, iI_inj, Int.toNat_natCast, Int.lt_irrefl, if_true, if_false, reduceIte, P.r0, C.k h1 h2, c_cells C h1 h2, H.k, H.i1, c_emptyCellsOf H hD hB, sm]
      rw [show ptr s sh r y k = if 0 < nIn sh r y k ∧ nIn sh r y k = emi s k then s 0 else 0 from rfl]
      by_cases q1 : 0 < nIn sh r y k
      · rw [if_pos q1]
        by_cases q2 : nIn sh r y k = emi s k
        · rw [if_pos q2, if_pos ⟨q1, q2⟩, Int.add_assoc]; rfl
        · rw [if_neg q2, if_neg (fun q => q2 q.2), Int.add_assoc]; rfl
      · rw [if_neg q1, if_neg (fun q => q1 q.1), Int.add_assoc]; rfl) (none, none)
  refine Eq.trans (Eq.trans ?_ e') ?_
  · simp only [sm, Int.add_zero]; rfl
  · try dsimp only
    rw [b_X3_pointsOf_10]
    simp (disch := omega) only [Option.bind_some, va_rf_some, va_rf_none, bI_rI, bI_rB, bV_rV, bB_0, bB_1, iI_add, iI_sub, iI_mul, iI_neg, rI_of, rV_of, Int.reduceToNat, Int.neg_neg, iI_lt, iI_le, iI_inj, Int.toNat_natCast, Int.lt_irrefl, if_true, if_false, reduceIte, H.i2, hn]
    (try rfl)
theorem c_canPlace (H : GR G D M hs.1 a s 2) (C : CH G D hs.1) (P : PL G D hs.1 q sh r x y) (hD : Dm s) (hB : RB s) (hT : s 2 ≤ 1) (h1 : 0 ≤ sh) (h2 : sh ≤ 4) (h3 : 0 ≤ r) (h4 : r ≤ 3) (h5 : 0 ≤ x ∧ x ≤ 7) (h6 : 0 ≤ y ∧ y ≤ 7) : t_Ev (t_pg G) t_hd Y_X3_canPlace 0 ([some (.ref a), some (.ref q)], [], hs) = rB (mayP s sh r x y) hs := by
  have ht := (hB 2).1
  rw [b_X3_canPlace_0]
  simp only [Option.bind_some, va_rf_some, va_rf_none, bI_rI, bI_rB, bV_rV, bB_0, bB_1, iI_add, iI_sub, iI_mul, iI_neg, rI_of, rV_of, Int.reduceToNat, Int.neg_neg, H.k, c_isFinished H hB, H.i9, P.r0]
  unfold mayP
  cases ovr s with
  | true => rfl
  | false =>
    simp (disch := omega) only [Option.bind_some, va_rf_some, va_rf_none, bI_rI, bI_rB, bV_rV, bB_0, bB_1, iI_add, iI_sub, iI_mul, iI_neg, rI_of, rV_of, Int.reduceToNat, Int.neg_neg, c_hasPiece H C hB, if_true, Bool.not_false, Bool.true_and, c_isFitting H C P hD hB h1 h2 h3 h4 h5 h6]
    cases decide (0 < ofS s (s 2) (2 + sh)) with
    | false => rfl
    | true =>
      simp only [Option.bind_some, va_rf_some, va_rf_none, bI_rI, bI_rB, bV_rV, bB_0, bB_1, iI_add, iI_sub, iI_mul, iI_neg, rI_of, rV_of, Int.reduceToNat, Int.neg_neg, H.k, Bool.true_eq_false, if_false, c_isFitting H C P hD hB h1 h2 h3 h4 h5 h6]
      cases decide (mf s sh r x y = 0) <;> rfl
theorem c_canFasten (H : GR G D M hs.1 a s 2) (hB : RB s) (hT : s 2 ≤ 1) {x y d : Int} (h1 : 0 ≤ x ∧ x ≤ 7) (h2 : 0 ≤ y ∧ y ≤ 7) (h3 : 0 ≤ d ∧ d ≤ 1) (h4 : 0 ≤ bey0 x d ∧ bey0 x d ≤ 7) (h5 : 0 ≤ bey1 y d ∧ bey1 y d ≤ 7) : t_Ev (t_pg G) t_hd Y_X3_canFasten 0 ([some (.ref a), some (.int (iI x)), some (.int (iI y)), some (.int (iI d)), none, none, none], [], hs) = rB (mayF s x y d) hs := by
  have ht := (hB 2).1
  have hc1 := hB.c x y
  have hc2 := hB.c (bey0 x d) (bey1 y d)
  have he1 := enc_b hc1.1 hc1.2
  have he2 := enc_b hc2.1 hc2.2
  have ho : 0 ≤ ofS s (s 2) 1 ∧ ofS s (s 2) 1 ≤ 1000000 := hB _
  obtain ⟨pa, b, su, nm, f, e1, e2, e3, -⟩ := H.pl (p := s 2) ht (by omega) (by decide)
  have t68 : ∀ (v1 v2 v3 v4 v5 v6 : Option Value) (z : Bool), t_Ev (t_pg G) t_hd Y_X3_canFasten 68 ([some (.ref a), v1, v2, v3, v4, v5, v6], [.int (iI (bB z))], hs) = rB (z && (!ovr s && decide (0 < ofS s (s 2) 1))) hs := fun v1 v2 v3 v4 v5 v6 z => by
    rw [b_X3_canFasten_68]
    simp (disch := omega) only [Option.bind_some, va_rf_some, va_rf_none, bI_rI, bI_rB, bV_rV, bB_0, bB_1, iI_add, iI_sub, iI_mul, iI_neg, rI_of, rV_of, Int.reduceToNat, Int.neg_neg, H.k, c_isFinished H hB, H.i9, e1, e2, gfI_at (k := 2) (x := iI (ofS s (s 2) 1)) e3 rfl, iI_lt]
    cases z with
    | false => rfl
    | true =>
      cases ovr s with
      | true => rfl
      | false => simp only [Bool.true_eq_false, if_false, if_true, rB_dec, Bool.true_and, Bool.not_false]
  have t63 : ∀ (v1 v2 v3 v4 v5 v6 : Option Value), t_Ev (t_pg G) t_hd Y_X3_canFasten 63 ([some (.ref a), v1, v2, v3, v4, v5, v6], [], hs) = rB (!ovr s && decide (0 < ofS s (s 2) 1)) hs := fun v1 v2 v3 v4 v5 v6 => by
    rw [b_X3_canFasten_63]
    exact (t68 v1 v2 v3 v4 v5 v6 true).trans (by rw [Bool.true_and])
  have t67 : ∀ (v1 v2 v3 v4 v5 v6 : Option Value), t_Ev (t_pg G) t_hd Y_X3_canFasten 67 ([some (.ref a), v1, v2, v3, v4, v5, v6], [], hs) = rB false hs := fun v1 v2 v3 v4 v5 v6 => by
    rw [b_X3_canFasten_67]
    exact (t68 v1 v2 v3 v4 v5 v6 false).trans (by rw [Bool.false_and])
  have key : stN s x y (bey0 x d) (bey1 y d) = stB s x y d := by
    unfold stN bey0 bey1
    rcases (show d = 0 ∨ d = 1 by omega) with rfl | rfl
    · simp only [if_true, show min x (x + 1) = x by omega, show min y y = y by omega]
    · simp only [show ((1:Int) = 0) = False by decide, if_false, show (y = y + 1) = False by simp; omega, show min x x = x by omega, show min y (y + 1) = y by omega]
  have pk : ∀ u v : Int, (pOf s u v = -1) = (cI s u v < 2) := fun u v => by
    unfold pOf
    split <;> simp <;> omega
  rw [b_X3_canFasten_0]
  simp (disch := omega) only [Option.bind_some, va_rf_some, va_rf_none, bI_rI, bI_rB, bV_rV, bB_0, bB_1, iI_add, iI_sub, iI_mul, iI_neg, rI_of, rV_of, Int.reduceToNat, Int.neg_neg, H.k, c_cell H, c_columnBeyond, c_rowBeyond, c_isStrapped H, iI_inj, t63, t67, enc_bl, enc_e]
  unfold mayF
  rw [key]
  have hpe : cI s x y ≠ 1 → cI s (bey0 x d) (bey1 y d) ≠ 1 → ((enc (cI s x y) = enc (cI s (bey0 x d) (bey1 y d)) → cI s x y = 0) ↔ (pOf s x y = -1 ∨ ¬ pOf s x y = pOf s (bey0 x d) (bey1 y d))) := fun g1 g2 => by
    unfold enc pOf
    split <;> split <;> (try split) <;> (try split) <;> (try split) <;> (try split) <;> omega
  cases stB s x y d with
  | true => simp [Bool.and_comm, Bool.and_left_comm]
  | false =>
    by_cases q2 : cI s x y = 1
    · simp [q2]
    by_cases q3 : cI s (bey0 x d) (bey1 y d) = 1
    · simp [q2, q3]
    have hh := hpe q2 q3
    have hz : decide (0 < ofS s (s 2) 1) = !decide (ofS s (s 2) 1 = 0) := by
      by_cases c : ofS s (s 2) 1 = 0
      · simp [c]
      · simp [c]; omega
    rw [hz]
    by_cases q4 : enc (cI s x y) = enc (cI s (bey0 x d) (bey1 y d))
    · by_cases q5 : cI s x y = 0
      · have := hh.mp fun _ => q5
        rw [show (decide (pOf s x y = -1) || !decide (pOf s x y = pOf s (bey0 x d) (bey1 y d))) = true by simpa using this]
        simp [q2, q3, q4, q5]
      · have : ¬ (pOf s x y = -1 ∨ ¬ pOf s x y = pOf s (bey0 x d) (bey1 y d)) := fun z => q5 (hh.mpr z q4)
        rw [show (decide (pOf s x y = -1) || !decide (pOf s x y = pOf s (bey0 x d) (bey1 y d))) = false by simpa using this]
        simp [q2, q3, q4, q5]
    · have := hh.mp fun z => absurd z q4
      rw [show (decide (pOf s x y = -1) || !decide (pOf s x y = pOf s (bey0 x d) (bey1 y d))) = true by simpa using this]
      simp [q2, q3, q4]
end FT
