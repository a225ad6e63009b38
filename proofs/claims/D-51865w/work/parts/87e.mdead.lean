/-! ===== the model: dead cells ===== -/
def cvB (sh r x y u w : Int) : Bool := an (fun k => decide (cX sh r x k = u) && decide (cY sh r y k = w)) (shN sh)
def anX (s : tRow) (sh r y u w : Int) : Bool := an (fun x => decide (mf s sh r x y = 0) && cvB sh r x y u w) (s 0).toNat
def anY (s : tRow) (sh r u w : Int) : Bool := an (fun y => anX s sh r y u w) (s 1).toNat
def anR (s : tRow) (sh u w : Int) : Bool := an (fun r => anY s sh r u w) 4
def anS (s : tRow) (u w : Int) : Bool := an (fun sh => anR s sh u w) 5
section MDD
variable {G : tG} {m : Nat} {fi : Nat → Int} {ar : Nat → Nat → Int} {g : tAH} {z : Nat × Nat}
theorem e_covers {f : Nat → Int} {a : Nat → Nat → Int} {sh r x y u w : Int} (hP : Spd f a sh r x y) (hx : 0 ≤ x ∧ x ≤ 7) (hy : 0 ≤ y ∧ y ≤ 7) (hu : 0 ≤ u ∧ u ≤ 7) (hw : 0 ≤ w ∧ w ≤ 7) : t_Ev (t_pg G) t_hd Y_X5_covers 0 ([some (.ref m), some (.int (iI u)), some (.int (iI w)), none], [], (hM m f a g, z)) = rB (cvB sh r x y u w) (hM m f a g, z) := by
  have hN := shN_b (sh := sh)
  have lo := lp_any (N := shN sh) (p := fun k => decide (cX sh r x k = u) && decide (cY sh r y k = w)) (F := fun k => t_Ev (t_pg G) t_hd Y_X5_covers 2 ([some (.ref m), some (.int (iI u)), some (.int (iI w)), some (.int (iI (k : Int)))], [], (hM m f a g, z))) (r := rI 1 (hM m f a g, z)) fun k hk => by
    obtain ⟨p1, p2⟩ := hP.2 k hk
    have b1 := cX_b (sh := sh) (r := r) (x := x) hk
    have b2 := cY_b (sh := sh) (r := r) (y := y) hk
    rw [b_X5_covers_2]
    simp (disch := omega) only [mK, mgI6, mgI7, mgI13, mgI14, mgI15, mgI16, mgI17, mgI18, mgI19, mgI20, mgI21, mgI22, mgI23, mgI24, mgI25, mgI26, mgI27, mgR0, mgR1, mgR2, mgR3, mgR4, mgR5, mgR8, mgR9, mgR10, mgR11, mgR12, Option.bind_some, va_rf_some, va_rf_none, bI_rI, bI_rB, bV_rV, bB_0, bB_1, iI_add, iI_sub, iI_mul, iI_neg, rI_of, rV_of, Int.reduceToNat, Int.neg_neg, iI_lt, hP.1]
    rw [if_pos (by omega)]
    simp (disch := omega) only [mld10, mld11, Option.bind_some, Int.toNat_natCast, p1, p2, iI_inj]
    by_cases q1 : cX sh r x k = u
    · rw [if_pos q1, decide_eq_true q1, Bool.true_and]
      by_cases q2 : cY sh r y k = w
      · rw [if_pos q2, decide_eq_true q2, if_pos rfl]
      · rw [if_neg q2, decide_eq_false q2, if_neg (by decide)]; rfl
    · rw [if_neg q1, decide_eq_false q1, Bool.false_and, if_neg (by decide)]; rfl
  rw [b_X5_covers_0]
  refine Eq.trans lo ?_
  unfold cvB
  cases an (fun k => decide (cX sh r x k = u) && decide (cY sh r y k = w)) (shN sh) with
  | true => rfl
  | false =>
    rw [if_neg (by decide), b_X5_covers_2]
    simp (disch := omega) only [mK, mgI6, mgI7, mgI13, mgI14, mgI15, mgI16, mgI17, mgI18, mgI19, mgI20, mgI21, mgI22, mgI23, mgI24, mgI25, mgI26, mgI27, mgR0, mgR1, mgR2, mgR3, mgR4, mgR5, mgR8, mgR9, mgR10, mgR11, mgR12, Option.bind_some, va_rf_some, va_rf_none, bI_rI, bI_rB, bV_rV, bB_0, bB_1, iI_add, iI_sub, iI_mul, iI_neg, rI_of, rV_of, Int.reduceToNat, Int.neg_neg, iI_lt, hP.1]
    rw [if_neg (by omega)]
    rfl
theorem e_dead44 (md : Md fi ar) {sh r y u w : Int} (h1 : 0 ≤ sh) (h2 : sh ≤ 4) (h3 : 0 ≤ r) (h4 : r ≤ 3) (h6 : 0 ≤ y ∧ y ≤ 7) (hu : 0 ≤ u ∧ u ≤ 7) (hw : 0 ≤ w ∧ w ≤ 7) {f0 : Nat → Int} {a0 : Nat → Nat → Int} (hs : Sc [17] [10, 11] fi ar f0 a0) :
    ∃ (f1 : Nat → Int) (a1 : Nat → Nat → Int) (v : Option Value), Sc [17] [10, 11] fi ar f1 a1 ∧ t_Ev (t_pg G) t_hd Y_X5_dead 44 ([some (.ref m), some (.int (iI u)), some (.int (iI w)), some (.int (iI sh)), some (.int (iI r)), some (.int (iI y)), some (.int (iI 0))], [], (hM m f0 a0 g, z)) = if anX (ar 0) sh r y u w = true then rI 0 (hM m f1 a1 g, z) else t_Ev (t_pg G) t_hd Y_X5_dead 30 ([some (.ref m), some (.int (iI u)), some (.int (iI w)), some (.int (iI sh)), some (.int (iI r)), some (.int (iI (y + 1))), v], [], (hM m f1 a1 g, z)) := by
  have hd := md.w.bd.dm.1
  have hn := tn_of hd.1
  obtain ⟨⟨f1, a1⟩, i1, lo⟩ := lp_x (N := (ar 0 0).toNat) (σ := (Nat → Int) × (Nat → Nat → Int)) (I := fun c => Sc [17] [10, 11] fi ar c.1 c.2) (p := fun x => decide (mf (ar 0) sh r x y = 0) && cvB sh r x y u w) (X := fun c => rI 0 (hM m c.1 c.2 g, z)) (F := fun k c => t_Ev (t_pg G) t_hd Y_X5_dead 44 ([some (.ref m), some (.int (iI u)), some (.int (iI w)), some (.int (iI sh)), some (.int (iI r)), some (.int (iI y)), some (.int (iI (k : Int)))], [], (hM m c.1 c.2 g, z))) (fun k hk c hS => by
    have c0 : c.2 0 = ar 0 := hS.2 0 (by decide)
    obtain ⟨f2, a2, e2, s2, p2⟩ := e_misfit (G := G) (m := m) (fi := c.1) (ar := c.2) (g := g) (z := z) (sh := sh) (r := r) (x := k) (y := y) (by rw [c0]; exact md.w.bd.dm) (by rw [c0]; exact md.w.rb) h1 h2 h3 h4 (by omega) h6
    rw [c0] at e2
    have hm := mf_b (s := ar 0) (sh := sh) (r := r) (x := k) (y := y)
    have ec := e_covers (G := G) (m := m) (g := g) (z := z) p2 (by omega) h6 hu hw
    refine ⟨(f2, a2), hS.trans s2, ?_⟩
    try dsimp only
    rw [b_X5_dead_44]
    simp (disch := omega) only [mK, mgI6, mgI7, mgI13, mgI14, mgI15, mgI16, mgI17, mgI18, mgI19, mgI20, mgI21, mgI22, mgI23, mgI24, mgI25, mgI26, mgI27, mgR0, mgR1, mgR2, mgR3, mgR4, mgR5, mgR8, mgR9, mgR10, mgR11, mgR12, Option.bind_some, va_rf_some, va_rf_none, bI_rI, bI_rB, bV_rV, bB_0, bB_1, iI_add, iI_sub, iI_mul, iI_neg, rI_of, rV_of, Int.reduceToNat, Int.neg_neg, mld0, c0, iI_lt]
    rw [if_pos (show (k : Int) < ar 0 0 by omega), e2, bI_rI]
    simp (disch := omega) only [iI_inj]
    by_cases q : mf (ar 0) sh r k y = 0
    · rw [if_pos q, decide_eq_true q, Bool.true_and, mK, Option.bind_some, ec, bI_rB]
      simp only [bB_0]
      cases cvB sh r k y u w <;> rfl
    · rw [if_neg q, decide_eq_false q, Bool.false_and, if_neg (by decide)]
      rfl) (f0, a0) hs
  refine ⟨f1, a1, some (.int (iI (ar 0 0))), i1, Eq.trans lo ?_⟩
  have c0 : a1 0 = ar 0 := i1.2 0 (by decide)
  try dsimp only
  rw [b_X5_dead_44]
  simp (disch := omega) only [mK, mgI6, mgI7, mgI13, mgI14, mgI15, mgI16, mgI17, mgI18, mgI19, mgI20, mgI21, mgI22, mgI23, mgI24, mgI25, mgI26, mgI27, mgR0, mgR1, mgR2, mgR3, mgR4, mgR5, mgR8, mgR9, mgR10, mgR11, mgR12, Option.bind_some, va_rf_some, va_rf_none, bI_rI, bI_rB, bV_rV, bB_0, bB_1, iI_add, iI_sub, iI_mul, iI_neg, rI_of, rV_of, Int.reduceToNat, Int.neg_neg, mld0, c0, iI_lt]
  rw [if_neg (show ¬ (((ar 0 0).toNat : Nat) : Int) < ar 0 0 by omega), hn]
  rfl
theorem e_dead30 (md : Md fi ar) {sh r u w : Int} (h1 : 0 ≤ sh) (h2 : sh ≤ 4) (h3 : 0 ≤ r) (h4 : r ≤ 3) (hu : 0 ≤ u ∧ u ≤ 7) (hw : 0 ≤ w ∧ w ≤ 7) {f0 : Nat → Int} {a0 : Nat → Nat → Int} (hs : Sc [17] [10, 11] fi ar f0 a0) {v0 : Option Value} :
    ∃ (f1 : Nat → Int) (a1 : Nat → Nat → Int) (v v' : Option Value), Sc [17] [10, 11] fi ar f1 a1 ∧ t_Ev (t_pg G) t_hd Y_X5_dead 30 ([some (.ref m), some (.int (iI u)), some (.int (iI w)), some (.int (iI sh)), some (.int (iI r)), some (.int (iI 0)), v0], [], (hM m f0 a0 g, z)) = if anY (ar 0) sh r u w = true then rI 0 (hM m f1 a1 g, z) else t_Ev (t_pg G) t_hd Y_X5_dead 21 ([some (.ref m), some (.int (iI u)), some (.int (iI w)), some (.int (iI sh)), some (.int (iI (r + 1))), v, v'], [], (hM m f1 a1 g, z)) := by
  have hd := md.w.bd.dm.2
  have hn := tn_of hd.1
  obtain ⟨⟨f1, a1, v1⟩, i1, lo⟩ := lp_x (N := (ar 0 1).toNat) (σ := (Nat → Int) × (Nat → Nat → Int) × Option Value) (I := fun c => Sc [17] [10, 11] fi ar c.1 c.2.1) (p := fun y => anX (ar 0) sh r y u w) (X := fun c => rI 0 (hM m c.1 c.2.1 g, z)) (F := fun k c => t_Ev (t_pg G) t_hd Y_X5_dead 30 ([some (.ref m), some (.int (iI u)), some (.int (iI w)), some (.int (iI sh)), some (.int (iI r)), some (.int (iI (k : Int))), c.2.2], [], (hM m c.1 c.2.1 g, z))) (fun k hk c hS => by
    have c0 : c.2.1 0 = ar 0 := hS.2 0 (by decide)
    obtain ⟨f2, a2, v2, s2, e2⟩ := e_dead44 (G := G) (m := m) (g := g) (z := z) md h1 h2 h3 h4 (y := k) (by omega) hu hw hS
    refine ⟨(f2, a2, v2), s2, ?_⟩
    try dsimp only
    rw [b_X5_dead_30]
    simp (disch := omega) only [mK, mgI6, mgI7, mgI13, mgI14, mgI15, mgI16, mgI17, mgI18, mgI19, mgI20, mgI21, mgI22, mgI23, mgI24, mgI25, mgI26, mgI27, mgR0, mgR1, mgR2, mgR3, mgR4, mgR5, mgR8, mgR9, mgR10, mgR11, mgR12, Option.bind_some, va_rf_some, va_rf_none, bI_rI, bI_rB, bV_rV, bB_0, bB_1, iI_add, iI_sub, iI_mul, iI_neg, rI_of, rV_of, Int.reduceToNat, Int.neg_neg, mld0, c0, iI_lt]
    rw [if_pos (show (k : Int) < ar 0 1 by omega)]
    exact e2) (f0, a0, v0) hs
  refine ⟨f1, a1, some (.int (iI (((ar 0 1).toNat : Nat) : Int))), v1, i1, Eq.trans lo ?_⟩
  have c0 : a1 0 = ar 0 := i1.2 0 (by decide)
  try dsimp only
  rw [b_X5_dead_30]
  simp (disch := omega) only [mK, mgI6, mgI7, mgI13, mgI14, mgI15, mgI16, mgI17, mgI18, mgI19, mgI20, mgI21, mgI22, mgI23, mgI24, mgI25, mgI26, mgI27, mgR0, mgR1, mgR2, mgR3, mgR4, mgR5, mgR8, mgR9, mgR10, mgR11, mgR12, Option.bind_some, va_rf_some, va_rf_none, bI_rI, bI_rB, bV_rV, bB_0, bB_1, iI_add, iI_sub, iI_mul, iI_neg, rI_of, rV_of, Int.reduceToNat, Int.neg_neg, mld0, c0, iI_lt]
  rw [if_neg (show ¬ (((ar 0 1).toNat : Nat) : Int) < ar 0 1 by omega)]
  rfl
theorem e_dead21 (md : Md fi ar) {sh u w : Int} (h1 : 0 ≤ sh) (h2 : sh ≤ 4) (hu : 0 ≤ u ∧ u ≤ 7) (hw : 0 ≤ w ∧ w ≤ 7) {f0 : Nat → Int} {a0 : Nat → Nat → Int} (hs : Sc [17] [10, 11] fi ar f0 a0) {v0 v0' : Option Value} :
    ∃ (f1 : Nat → Int) (a1 : Nat → Nat → Int) (v v' v'' : Option Value), Sc [17] [10, 11] fi ar f1 a1 ∧ t_Ev (t_pg G) t_hd Y_X5_dead 21 ([some (.ref m), some (.int (iI u)), some (.int (iI w)), some (.int (iI sh)), some (.int (iI 0)), v0, v0'], [], (hM m f0 a0 g, z)) = if anR (ar 0) sh u w = true then rI 0 (hM m f1 a1 g, z) else t_Ev (t_pg G) t_hd Y_X5_dead 13 ([some (.ref m), some (.int (iI u)), some (.int (iI w)), some (.int (iI (sh + 1))), v, v', v''], [], (hM m f1 a1 g, z)) := by
  obtain ⟨⟨f1, a1, v1, v2⟩, i1, lo⟩ := lp_x (N := 4) (σ := (Nat → Int) × (Nat → Nat → Int) × Option Value × Option Value) (I := fun c => Sc [17] [10, 11] fi ar c.1 c.2.1) (p := fun r => anY (ar 0) sh r u w) (X := fun c => rI 0 (hM m c.1 c.2.1 g, z)) (F := fun k c => t_Ev (t_pg G) t_hd Y_X5_dead 21 ([some (.ref m), some (.int (iI u)), some (.int (iI w)), some (.int (iI sh)), some (.int (iI (k : Int))), c.2.2.1, c.2.2.2], [], (hM m c.1 c.2.1 g, z))) (fun k hk c hS => by
    obtain ⟨f2, a2, v2, v3, s2, e2⟩ := e_dead30 (G := G) (m := m) (g := g) (z := z) md h1 h2 (r := k) (by omega) (by omega) hu hw hS (v0 := c.2.2.2)
    refine ⟨(f2, a2, v2, v3), s2, ?_⟩
    try dsimp only
    rw [b_X5_dead_21]
    simp (disch := omega) only [iI_lt]
    rw [if_pos (by omega)]
    exact e2) (f0, a0, v0, v0') hs
  refine ⟨f1, a1, some (.int (iI ((4 : Nat) : Int))), v1, v2, i1, Eq.trans lo ?_⟩
  try dsimp only
  rw [b_X5_dead_21, if_neg (show ¬ iI ((4 : Nat) : Int) < iI 4 by decide), iI_add]
  rfl
theorem e_dead (md : Md fi ar) {u w : Int} (hu : 0 ≤ u ∧ u ≤ 7) (hw : 0 ≤ w ∧ w ≤ 7) {f0 : Nat → Int} {a0 : Nat → Nat → Int} (hs : Sc [17] [10, 11] fi ar f0 a0) :
    ∃ (f1 : Nat → Int) (a1 : Nat → Nat → Int), Sc [17] [10, 11] fi ar f1 a1 ∧ t_Ev (t_pg G) t_hd Y_X5_dead 0 ([some (.ref m), some (.int (iI u)), some (.int (iI w)), none, none, none, none], [], (hM m f0 a0 g, z)) = rB (decide (cI (ar 0) u w = 0) && !anS (ar 0) u w) (hM m f1 a1 g, z) := by
  have c0 : a0 0 = ar 0 := hs.2 0 (by decide)
  have hc := md.w.rb.c u w
  have ec := e_cell (G := G) (m := m) (fi := f0) (ar := a0) (g := g) (z := z) (x := u) (y := w) (by omega) (by omega) (by omega) (by omega)
  rw [c0] at ec
  rw [b_X5_dead_0, mK, Option.bind_some, ec, bI_rI]
  simp (disch := omega) only [iI_inj]
  by_cases q : cI (ar 0) u w = 0
  case neg => exact ⟨f0, a0, hs, by rw [if_neg q, decide_eq_false q]; rfl⟩
  obtain ⟨⟨f1, a1, v1, v2, v3⟩, i1, lo⟩ := lp_x (N := 5) (σ := (Nat → Int) × (Nat → Nat → Int) × Option Value × Option Value × Option Value) (I := fun c => Sc [17] [10, 11] fi ar c.1 c.2.1) (p := fun sh => anR (ar 0) sh u w) (X := fun c => rI 0 (hM m c.1 c.2.1 g, z)) (F := fun k c => t_Ev (t_pg G) t_hd Y_X5_dead 13 ([some (.ref m), some (.int (iI u)), some (.int (iI w)), some (.int (iI (k : Int))), c.2.2.1, c.2.2.2.1, c.2.2.2.2], [], (hM m c.1 c.2.1 g, z))) (fun k hk c hS => by
    obtain ⟨f2, a2, v2, v3, v4, s2, e2⟩ := e_dead21 (G := G) (m := m) (g := g) (z := z) md (sh := k) (by omega) (by omega) hu hw hS (v0 := c.2.2.2.1) (v0' := c.2.2.2.2)
    refine ⟨(f2, a2, v2, v3, v4), s2, ?_⟩
    try dsimp only
    rw [b_X5_dead_13]
    simp (disch := omega) only [iI_lt]
    rw [if_pos (by omega)]
    exact e2) (f0, a0, none, none, none) hs
  refine ⟨f1, a1, i1, ?_⟩
  rw [if_pos q, decide_eq_true q, Bool.true_and]
  refine Eq.trans lo ?_
  try dsimp only
  unfold anS
  cases an (fun sh => anR (ar 0) sh u w) 5 with
  | true => rfl
  | false => rw [if_neg (by decide), b_X5_dead_13, if_neg (by decide)]; rfl
/-- the two ways to say it -/
theorem fd_or {p : Nat → Bool} : ∀ {n : Nat} {b : Bool}, fd (fun k b => b || p k) n b = (b || an p n) := by
  intro n
  induction n with
  | zero => intro b; exact (Bool.or_false b).symm
  | succ n ih => intro b; rw [fd, ih, an, Bool.or_assoc]
theorem fd_ors {p : Nat → Bool} {c : Nat → Bool} : ∀ {n : Nat} {b : Bool}, fd (fun k b => if c k = true then (b || p k) else b) n b = (b || an (fun k => c k && p k) n) := by
  intro n
  induction n with
  | zero => intro b; exact (Bool.or_false b).symm
  | succ n ih =>
    intro b
    rw [fd, ih, an]
    cases c n with
    | true => rw [if_pos rfl, Bool.true_and, Bool.or_assoc]
    | false => rw [if_neg (by decide), Bool.false_and, Bool.or_false]
theorem rcF_at {sh r x y : Int} {st : Nat → Bool} {j : Nat} : rcF sh r x y st j = (st j || an (fun k => decide (j = (cY sh r y k * 8 + cX sh r x k).toNat)) (shN sh)) := by
  unfold rcF
  exact (fd_map (π := fun st : Nat → Bool => st j) (g := fun k b => b || decide (j = (cY sh r y k * 8 + cX sh r x k).toNat)) fun k a => rfl).trans fd_or
theorem rcS_anS {s : tRow} (hD : Dm s) {u w : Int} (hu : 0 ≤ u ∧ u ≤ 7) (hw : 0 ≤ w ∧ w ≤ 7) : rcS s (w * 8 + u).toNat = anS s u w := by
  unfold rcS
  have e := vF_map (s := s) (φ := fun _ => true) (f := rcF) (g := fun sh r x y (b : Bool) => b || an (fun k => decide ((w * 8 + u).toNat = (cY sh r y k * 8 + cX sh r x k).toNat)) (shN sh)) (π := fun st : Nat → Bool => st (w * 8 + u).toNat) (fun sh r x y st => rcF_at) (st := fun _ => false)
  refine e.trans ?_
  have eX : ∀ (sh r y : Int) (b : Bool), vX s (fun sh r x y (b : Bool) => b || an (fun k => decide ((w * 8 + u).toNat = (cY sh r y k * 8 + cX sh r x k).toNat)) (shN sh)) sh r y b = (b || anX s sh r y u w) := fun sh r y b => by
    unfold vX anX
    have h := fd_ors (n := (s 0).toNat) (b := b) (c := fun x : Nat => decide (mf s sh r (x : Int) y = 0)) (p := fun x : Nat => an (fun k => decide ((w * 8 + u).toNat = (cY sh r y k * 8 + cX sh r (x : Int) k).toNat)) (shN sh))
    simp only [decide_eq_true_eq] at h
    refine h.trans (congrArg (b || ·) (an_congr fun x hx => ?_))
    by_cases q : mf s sh r x y = 0
    · rw [decide_eq_true q, Bool.true_and, Bool.true_and]
      unfold cvB
      refine an_congr fun k hk => ?_
      obtain ⟨-, b1, b2⟩ := mf_in hD q k hk
      by_cases q1 : cX sh r x k = u
      · by_cases q2 : cY sh r y k = w
        · rw [decide_eq_true q1, decide_eq_true q2, decide_eq_true (by rw [q1, q2])]; rfl
        · rw [decide_eq_true q1, decide_eq_false q2, decide_eq_false (by omega)]; rfl
      · rw [decide_eq_false q1, decide_eq_false (by omega)]; rfl
    · rw [decide_eq_false q, Bool.false_and, Bool.false_and]
  have eY : ∀ (sh r : Int) (b : Bool), vY s (fun sh r x y (b : Bool) => b || an (fun k => decide ((w * 8 + u).toNat = (cY sh r y k * 8 + cX sh r x k).toNat)) (shN sh)) sh r b = (b || anY s sh r u w) := fun sh r b => by
    unfold vY anY
    rw [fd_congr (g := fun y b => b || anX s sh r (y : Int) u w) (fun k _ a => eX sh r k a)]
    exact fd_or
  have eR : ∀ (sh : Int) (b : Bool), vR s (fun sh r x y (b : Bool) => b || an (fun k => decide ((w * 8 + u).toNat = (cY sh r y k * 8 + cX sh r x k).toNat)) (shN sh)) sh b = (b || anR s sh u w) := fun sh b => by
    unfold vR anR
    rw [fd_congr (g := fun r b => b || anY s sh (r : Int) u w) (fun k _ a => eY sh k a)]
    exact fd_or
  unfold vF anS
  rw [fd_congr (g := fun sh b => b || anR s (sh : Int) u w) (fun k _ a => by rw [if_pos rfl]; exact eR k a)]
  exact fd_or.trans (Bool.false_or _)
theorem m_isDead (md : Md fi ar) {u w : Int} (h1 : InR u) (h2 : InR w) : MQr m g z fi ar kcB (t_Ev (t_pg G) t_hd Y_X5_isDead 0 ([some (.ref m), some (.int (iI u)), some (.int (iI w))], [], (hM m fi ar g, z))) (if inB (ar 0) u w = true then .inr (bB (ddB (ar 0) u w)) else .inl 17) := by
  rw [b_X5_isDead_0, mK, Option.bind_some, e_isInside md.w.bd.dm h1.1 h1.2 h2.1 h2.2, bI_rB]
  simp only [bB_0]
  cases c : inB (ar 0) u w with
  | false =>
    refine MQr.t7 (w := 0) ?_ rfl
    rw [if_pos rfl, b_X5_isDead_15, mK, Option.bind_some, ef1, bI_rI, if_neg (by decide)]
    rfl
  | true =>
    have hi := inB_7 md.w.bd.dm c
    have md7 : Md (fU fi 7 0) ar := ⟨md.w, md.b2, md.b3, md.c6, md.n13, md.ib, md.kw, md.sw, md.f5, md.o14, md.o9⟩
    obtain ⟨f1, a1, s1, e1⟩ := e_dead (G := G) (m := m) (g := g) (z := z) md7 hi.1 hi.2 Sc.refl
    refine MQr.v (fi' := f1) (ar' := a1) ?_ (q7_Sc.trans s1.q17) ((s1.1 7 (by decide)).trans fU_s)
    rw [if_neg (by decide), b_X5_isDead_15, mK, Option.bind_some, ef0, bI_rI, if_pos rfl, mK, Option.bind_some, e1, bI_rB]
    unfold ddB
    rw [rcS_anS md.w.bd.dm hi.1 hi.2]
    simp only [bB_0]
    cases (decide (cI (ar 0) u w = 0) && !anS (ar 0) u w) <;> rfl
theorem m_dead21 (md : Md fi ar) {y q : Int} (h6 : 0 ≤ y ∧ y ≤ 7) {f0 : Nat → Int} {a0 : Nat → Nat → Int} (hs : Sc [17] [10, 11] fi ar f0 a0) :
    ∃ (f1 : Nat → Int) (a1 : Nat → Nat → Int) (v : Option Value), Sc [17] [10, 11] fi ar f1 a1 ∧ t_Ev (t_pg G) t_hd Y_X5_deadCells 21 ([some (.ref m), some (.int (iI q)), some (.int (iI y)), some (.int (iI 0))], [], (hM m f0 a0 g, z)) = t_Ev (t_pg G) t_hd Y_X5_deadCells 9 ([some (.ref m), some (.int (iI (q + sm (fun x => bB (ddB (ar 0) x y)) (ar 0 0).toNat))), some (.int (iI (y + 1))), v], [], (hM m f1 a1 g, z)) := by
  have hd := md.w.bd.dm.1
  have hn := tn_of hd.1
  obtain ⟨⟨f1, a1⟩, i1, lo⟩ := lp_ik (N := (ar 0 0).toNat) (σ := (Nat → Int) × (Nat → Nat → Int)) (I := fun _ c => Sc [17] [10, 11] fi ar c.1 c.2) (F := fun k c => t_Ev (t_pg G) t_hd Y_X5_deadCells 21 ([some (.ref m), some (.int (iI (q + sm (fun x => bB (ddB (ar 0) x y)) k))), some (.int (iI y)), some (.int (iI (k : Int)))], [], (hM m c.1 c.2 g, z))) (fun k hk c hS => by
    have c0 : c.2 0 = ar 0 := hS.2 0 (by decide)
    obtain ⟨f2, a2, s2, e2⟩ := e_dead (G := G) (m := m) (g := g) (z := z) md (u := k) (w := y) (by omega) h6 hS
    refine ⟨(f2, a2), s2, ?_⟩
    try dsimp only
    rw [b_X5_deadCells_21]
    simp (disch := omega) only [mK, mgI6, mgI7, mgI13, mgI14, mgI15, mgI16, mgI17, mgI18, mgI19, mgI20, mgI21, mgI22, mgI23, mgI24, mgI25, mgI26, mgI27, mgR0, mgR1, mgR2, mgR3, mgR4, mgR5, mgR8, mgR9, mgR10, mgR11, mgR12, Option.bind_some, va_rf_some, va_rf_none, bI_rI, bI_rB, bV_rV, bB_0, bB_1, iI_add, iI_sub, iI_mul, iI_neg, rI_of, rV_of, Int.reduceToNat, Int.neg_neg, mld0, c0, iI_lt, sm]
    rw [if_pos (show (k : Int) < ar 0 0 by omega), e2, bI_rB, ← Int.add_assoc]
    unfold ddB
    rw [rcS_anS md.w.bd.dm (by omega) h6]
    simp only [bB_0]
    cases (decide (cI (ar 0) k y = 0) && !anS (ar 0) k y) with
    | true => rfl
    | false => rw [if_pos rfl, bB_f, Int.add_zero]; rfl) (f0, a0) hs
  refine ⟨f1, a1, some (.int (iI (((ar 0 0).toNat : Nat) : Int))), i1, ?_⟩
  have c0 : a1 0 = ar 0 := i1.2 0 (by decide)
  dsimp only [sm] at lo
  rw [Int.add_zero] at lo
  refine Eq.trans lo ?_
  rw [b_X5_deadCells_21]
  simp (disch := omega) only [mK, mgI6, mgI7, mgI13, mgI14, mgI15, mgI16, mgI17, mgI18, mgI19, mgI20, mgI21, mgI22, mgI23, mgI24, mgI25, mgI26, mgI27, mgR0, mgR1, mgR2, mgR3, mgR4, mgR5, mgR8, mgR9, mgR10, mgR11, mgR12, Option.bind_some, va_rf_some, va_rf_none, bI_rI, bI_rB, bV_rV, bB_0, bB_1, iI_add, iI_sub, iI_mul, iI_neg, rI_of, rV_of, Int.reduceToNat, Int.neg_neg, mld0, c0, iI_lt]
  rw [if_neg (show ¬ (((ar 0 0).toNat : Nat) : Int) < ar 0 0 by omega)]
theorem m_deadCells (md : Md fi ar) {kc : Nat → Int} : MQr m g z fi ar kc (t_Ev (t_pg G) t_hd Y_X5_deadCells 0 ([some (.ref m), none, none, none], [], (hM m fi ar g, z))) (.inr (ddN (ar 0))) := by
  have hd := md.w.bd.dm.2
  have hn := tn_of hd.1
  have md7 : Md (fU fi 7 0) ar := ⟨md.w, md.b2, md.b3, md.c6, md.n13, md.ib, md.kw, md.sw, md.f5, md.o14, md.o9⟩
  obtain ⟨⟨f1, a1, v1⟩, i1, lo⟩ := lp_ik (N := (ar 0 1).toNat) (σ := (Nat → Int) × (Nat → Nat → Int) × Option Value) (I := fun _ c => Sc [17] [10, 11] (fU fi 7 0) ar c.1 c.2.1) (F := fun k c => t_Ev (t_pg G) t_hd Y_X5_deadCells 9 ([some (.ref m), some (.int (iI (sm (fun y => sm (fun x => bB (ddB (ar 0) x y)) (ar 0 0).toNat) k))), some (.int (iI (k : Int))), c.2.2], [], (hM m c.1 c.2.1 g, z))) (fun k hk c hS => by
    have c0 : c.2.1 0 = ar 0 := hS.2 0 (by decide)
    obtain ⟨f2, a2, v2, s2, e2⟩ := m_dead21 (G := G) (m := m) (g := g) (z := z) md7 (y := k) (q := sm (fun y => sm (fun x => bB (ddB (ar 0) x y)) (ar 0 0).toNat) k) (by omega) hS
    refine ⟨(f2, a2, v2), s2, ?_⟩
    try dsimp only
    rw [b_X5_deadCells_9]
    simp (disch := omega) only [mK, mgI6, mgI7, mgI13, mgI14, mgI15, mgI16, mgI17, mgI18, mgI19, mgI20, mgI21, mgI22, mgI23, mgI24, mgI25, mgI26, mgI27, mgR0, mgR1, mgR2, mgR3, mgR4, mgR5, mgR8, mgR9, mgR10, mgR11, mgR12, Option.bind_some, va_rf_some, va_rf_none, bI_rI, bI_rB, bV_rV, bB_0, bB_1, iI_add, iI_sub, iI_mul, iI_neg, rI_of, rV_of, Int.reduceToNat, Int.neg_neg, mld0, c0, iI_lt]
    rw [if_pos (show (k : Int) < ar 0 1 by omega)]
    exact e2) (fU fi 7 0, ar, none) Sc.refl
  refine MQr.v (fi' := f1) (ar' := a1) ?_ (q7_Sc.trans i1.q17) ((i1.1 7 (by decide)).trans fU_s)
  have c0 : a1 0 = ar 0 := i1.2 0 (by decide)
  rw [b_X5_deadCells_0, mpI7, Option.bind_some]
  refine Eq.trans lo ?_
  try dsimp only
  rw [b_X5_deadCells_9]
  simp (disch := omega) only [mK, mgI6, mgI7, mgI13, mgI14, mgI15, mgI16, mgI17, mgI18, mgI19, mgI20, mgI21, mgI22, mgI23, mgI24, mgI25, mgI26, mgI27, mgR0, mgR1, mgR2, mgR3, mgR4, mgR5, mgR8, mgR9, mgR10, mgR11, mgR12, Option.bind_some, va_rf_some, va_rf_none, bI_rI, bI_rB, bV_rV, bB_0, bB_1, iI_add, iI_sub, iI_mul, iI_neg, rI_of, rV_of, Int.reduceToNat, Int.neg_neg, mld0, c0, iI_lt]
  rw [if_neg (show ¬ (((ar 0 1).toNat : Nat) : Int) < ar 0 1 by omega)]
  rfl
end MDD
