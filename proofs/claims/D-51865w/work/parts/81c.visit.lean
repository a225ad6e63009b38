/-! ===== the component: all placements that fit are visited ===== -/
/-- a fold over the first n -/
def fd {α : Type} (f : Nat → α → α) : Nat → α → α
  | 0, a => a
  | n + 1, a => f n (fd f n a)
theorem fd_map {α β : Type} {f : Nat → α → α} {g : Nat → β → β} {π : α → β} (h : ∀ k a, π (f k a) = g k (π a)) : ∀ {n : Nat} {a : α}, π (fd f n a) = fd g n (π a) := by
  intro n
  induction n with
  | zero => exact rfl
  | succ n ih => intro a; rw [fd, fd, h, ih]
theorem fd_le {α : Type} {f : Nat → α → α} {μ : α → Nat} {c : Nat} (h : ∀ k a, μ (f k a) ≤ μ a + c) : ∀ {n : Nat} {a : α}, μ (fd f n a) ≤ μ a + n * c := by
  intro n
  induction n with
  | zero => intro a; simp [fd]
  | succ n ih =>
    intro a
    have h1 := h n (fd f n a)
    have h2 := ih (a := a)
    rw [fd, Nat.succ_mul]
    omega
theorem fd_congr {α : Type} {f g : Nat → α → α} {n : Nat} (h : ∀ k, k < n → ∀ a, f k a = g k a) : ∀ {a : α}, fd f n a = fd g n a := by
  induction n with
  | zero => intro a; rfl
  | succ n ih =>
    intro a
    rw [fd, fd, ih (fun k hk => h k (Nat.lt_succ_of_lt hk)), h n (Nat.lt_succ_self n)]
theorem fd_sum {f : Nat → Int} : ∀ {n : Nat} {a : Int}, fd (fun k a => a + f k) n a = a + sm f n := by
  intro n
  induction n with
  | zero => intro a; simp [fd, sm]
  | succ n ih => intro a; rw [fd, sm, ih, Int.add_assoc]
/-- the folds of a visit -/
def vX {σ : Type} (s : tRow) (f : Int → Int → Int → Int → σ → σ) (sh r y : Int) (st : σ) : σ := fd (fun x st => if mf s sh r x y = 0 then f sh r x y st else st) (s 0).toNat st
def vY {σ : Type} (s : tRow) (f : Int → Int → Int → Int → σ → σ) (sh r : Int) (st : σ) : σ := fd (fun y st => vX s f sh r y st) (s 1).toNat st
def vR {σ : Type} (s : tRow) (f : Int → Int → Int → Int → σ → σ) (sh : Int) (st : σ) : σ := fd (fun r st => vY s f sh r st) 4 st
def vF {σ : Type} (s : tRow) (φ : Int → Bool) (f : Int → Int → Int → Int → σ → σ) (st : σ) : σ := fd (fun sh st => if φ sh = true then vR s f sh st else st) 5 st
theorem vF_map {σ τ : Type} {s : tRow} {φ : Int → Bool} {f : Int → Int → Int → Int → σ → σ} {g : Int → Int → Int → Int → τ → τ} {π : σ → τ} (h : ∀ sh r x y st, π (f sh r x y st) = g sh r x y (π st)) {st : σ} : π (vF s φ f st) = vF s φ g (π st) := by
  refine fd_map fun sh st => ?_
  by_cases c : φ sh = true
  · simp only [if_pos c]
    refine fd_map fun r st => fd_map fun y st => fd_map fun x st => ?_
    by_cases c : mf s sh r x y = 0
    · simp only [if_pos c]; exact h _ _ _ _ _
    · simp only [if_neg c]
  · simp only [if_neg c]
theorem vF_le {σ : Type} {s : tRow} (hD : Dm s) {φ : Int → Bool} {f : Int → Int → Int → Int → σ → σ} {μ : σ → Nat} (h : ∀ sh r x y st, μ (f sh r x y st) ≤ μ st + 1) {st : σ} : μ (vF s φ f st) ≤ μ st + 1280 := by
  have hd := hD.1
  have hd2 := hD.2
  have hx : ∀ sh r y st, μ (vX s f sh r y st) ≤ μ st + 8 := fun sh r y st => by
    have := fd_le (f := fun x st => if mf s sh r x y = 0 then f sh r x y st else st) (μ := μ) (c := 1) (fun x st => by
      by_cases c : mf s sh r x y = 0
      · simp only [if_pos c]; exact h _ _ _ _ _
      · simp only [if_neg c]; omega) (n := (s 0).toNat) (a := st)
    unfold vX
    omega
  have hy : ∀ sh r st, μ (vY s f sh r st) ≤ μ st + 64 := fun sh r st => by
    have := fd_le (f := fun y st => vX s f sh r y st) (μ := μ) (c := 8) (fun y st => hx _ _ _ _) (n := (s 1).toNat) (a := st)
    unfold vY
    omega
  have hr : ∀ sh st, μ (vR s f sh st) ≤ μ st + 256 := fun sh st => fd_le (f := fun r st => vY s f sh r st) (μ := μ) (c := 64) (fun r st => hy _ _ _) (n := 4) (a := st)
  exact fd_le (f := fun sh st => if φ sh = true then vR s f sh st else st) (μ := μ) (c := 256) (fun sh st => by
    by_cases c : φ sh = true
    · simp only [if_pos c]; exact hr _ _
    · simp only [if_neg c]; omega) (n := 5) (a := st)
theorem gfR_cg {h h' : tAH} {a c k : Nat} (e : h' a = h a) : gfR h' (.ref a) c k = gfR h (.ref a) c k := by simp only [gfR, e]
theorem gfI_cg {h h' : tAH} {a c k : Nat} (e : h' a = h a) : gfI h' (.ref a) c k = gfI h (.ref a) c k := by simp only [gfI, e]
theorem kN_cg {h h' : tAH} {a c : Nat} (e : h' a = h a) : t_kN h' (.ref a) c = t_kN h (.ref a) c := by simp only [t_kN, e]
section VIS
variable {G : tG} {D M : Nat → Prop} {a : Nat} {s : tRow} {q vi fl sv : Nat} {σ : Type}
/-- what a visit asks: at every state of it (heap, the moving placement at q) the game is there, the placement may be moved on, the visitor does f -/
def Vw (G : tG) (D M : Nat → Prop) (a : Nat) (s : tRow) (vi q sv : Nat) (f : Int → Int → Int → Int → σ → σ) (J : σ → tHS → Prop) : Prop :=
  (∀ st hs, J st hs → GR G D M hs.1 a s 2 ∧ CH G D hs.1 ∧ SV G (fun _ => True) hs.1 sv) ∧
  (∀ st hs e e', J st hs → hs.1 q = some (true, 5, .inl e) → J st (t_up hs.1 q (true, 5, .inl e'), hs.2)) ∧
  (∀ st hs sh r x y, J st hs → PL G (fun _ => True) hs.1 q sh r x y → 0 ≤ sh → sh ≤ 4 → 0 ≤ r → r ≤ 3 → (0 ≤ x ∧ x ≤ 7) → (0 ≤ y ∧ y ≤ 7) → mf s sh r x y = 0 →
    ∃ y' k vs hs', t_fn hs.1 (.ref vi) [(101, 166, 0, 99, 1), (103, 168, 1, 2, 3), (105, 170, 0, 2, 2), (107, 171, 1, 0, 2)] = some (y', k, vs) ∧ t_Ev (t_pg G) t_hd y' 0 (t_l0 (vs ++ [.ref q]) k, [], hs) = rV hs' ∧ J (f sh r x y st) hs' ∧ PL G (fun _ => True) hs'.1 q sh r x y)
theorem bV_ex {o : Option tRS} {K : tHS → Option tRS} {X : Nat → tHS → Option tRS} {hs : tHS} (h : o = rV hs) : bndV o K X = K hs := by rw [h]; rfl
theorem PL.w1 {h : tAH} {sh r x y r' : Int} (P : PL G (fun _ => True) h q sh r x y) : pfV h (.ref q) 5 1 (.int (iI r')) = some (t_up h q (true, 5, .inl [.ref (G.1 sh.toNat), .int (iI r'), .int (iI x), .int (iI y)])) := pf_at P.2 (Nat.le_of_ble_eq_true rfl)
theorem PL.w2 {h : tAH} {sh r x y x' : Int} (P : PL G (fun _ => True) h q sh r x y) : pfV h (.ref q) 5 2 (.int (iI x')) = some (t_up h q (true, 5, .inl [.ref (G.1 sh.toNat), .int (iI r), .int (iI x'), .int (iI y)])) := pf_at P.2 (Nat.le_of_ble_eq_true rfl)
theorem PL.w3 {h : tAH} {sh r x y y' : Int} (P : PL G (fun _ => True) h q sh r x y) : pfV h (.ref q) 5 3 (.int (iI y')) = some (t_up h q (true, 5, .inl [.ref (G.1 sh.toNat), .int (iI r), .int (iI x), .int (iI y')])) := pf_at P.2 (Nat.le_of_ble_eq_true rfl)
theorem PL.up {h : tAH} {sh r x y : Int} : PL G (fun _ => True) (t_up h q (true, 5, .inl [.ref (G.1 sh.toNat), .int (iI r), .int (iI x), .int (iI y)])) q sh r x y := ⟨trivial, t_up_s⟩
theorem PL.tr {h : tAH} {sh r x y : Int} {D : Nat → Prop} (P : PL G D h q sh r x y) : PL G (fun _ => True) h q sh r x y := ⟨trivial, P.2⟩
theorem CH.tr {h : tAH} {D : Nat → Prop} (C : CH G D h) : CH G (fun _ => True) h := C.dm fun _ _ _ _ => trivial
theorem GR.tr {h : tAH} {D M : Nat → Prop} {np : Nat} (H : GR G D M h a s np) : GR G (fun _ => True) (fun _ => True) h a s np := H.dm (fun _ _ _ _ => trivial) (fun _ _ _ _ => trivial)
theorem c_vis33 {f : Int → Int → Int → Int → σ → σ} {J : σ → tHS → Prop} (V : Vw G D M a s vi q sv f J) (hD : Dm s) (hB : RB s) {sh r y : Int} (h1 : 0 ≤ sh) (h2 : sh ≤ 4) (h3 : 0 ≤ r) (h4 : r ≤ 3) (h6 : 0 ≤ y ∧ y ≤ 7) {st : σ} {hs : tHS} {x0 : Int} (hJ : J st hs) (P : PL G (fun _ => True) hs.1 q sh r x0 y) :
    ∃ hs' x' u, t_Ev (t_pg G) t_hd Y_X3_visitRotations 33 ([some (.ref a), some (.ref q), some (.ref vi), some (.int (iI r)), some (.int (iI y)), some (.int (iI 0))], [], hs) = t_Ev (t_pg G) t_hd Y_X3_visitRotations 15 ([some (.ref a), some (.ref q), some (.ref vi), some (.int (iI r)), some (.int (iI (y + 1))), u], [], hs') ∧ J (vX s f sh r y st) hs' ∧ PL G (fun _ => True) hs'.1 q sh r x' y := by
  have hd := hD.1
  have hn := tn_of hd.1
  obtain ⟨⟨hs', x'⟩, ⟨i1, i2⟩, e⟩ := lp_ik (N := (s 0).toNat) (σ := tHS × Int) (I := fun k c => J (fd (fun x st => if mf s sh r x y = 0 then f sh r x y st else st) k st) c.1 ∧ PL G (fun _ => True) c.1.1 q sh r c.2 y) (F := fun k c => t_Ev (t_pg G) t_hd Y_X3_visitRotations 33 ([some (.ref a), some (.ref q), some (.ref vi), some (.int (iI r)), some (.int (iI y)), some (.int (iI (k : Int)))], [], c.1)) (fun k hk c hc => by
    obtain ⟨c1, c2⟩ := hc
    have hk' : (k : Int) < s 0 := by omega
    have g := V.1 _ _ c1
    have j2 := V.2.1 _ c.1 _ [.ref (G.1 sh.toNat), .int (iI r), .int (iI (k : Int)), .int (iI y)] c1 c2.2
    have p2 : PL G (fun _ => True) (t_up c.1.1 q (true, 5, .inl [.ref (G.1 sh.toNat), .int (iI r), .int (iI (k : Int)), .int (iI y)])) q sh r k y := PL.up
    have g2 := V.1 _ _ j2
    have hfit := c_isFitting (hs := (t_up c.1.1 q (true, 5, .inl [.ref (G.1 sh.toNat), .int (iI r), .int (iI (k : Int)), .int (iI y)]), c.1.2)) g2.1.tr g2.2.1.tr p2 hD hB h1 h2 h3 h4 (by omega) h6
    by_cases cm : mf s sh r k y = 0
    · obtain ⟨y', kk, vs, hs3, f1, f2, f3, f4⟩ := V.2.2 _ _ sh r k y j2 p2 h1 h2 h3 h4 (by omega) h6 cm
      refine ⟨(hs3, (k : Int)), ⟨by rw [fd, if_pos cm]; exact f3, f4⟩, ?_⟩
      try dsimp only
      rw [b_X3_visitRotations_33]
      simp (disch := omega) only [Option.bind_some, va_rf_some, va_rf_none, bI_rI, bI_rB, bV_rV, bB_0, bB_1, iI_add, iI_sub, iI_mul, iI_neg, rI_of, rV_of, Int.reduceToNat, Int.neg_neg, iI_lt, iI_le, iI_inj, Int.toNat_natCast, Int.lt_irrefl, if_true, if_false, reduceIte, g.1.i1, hk', c2.w2, g2.1.k, hfit, decide_eq_true cm, Bool.true_eq_false]
      rw [f1]
      simp only [Option.bind_some]
      rw [bV_ex f2]
      rfl
    · refine ⟨(_, (k : Int)), ⟨by rw [fd, if_neg cm]; exact j2, p2⟩, ?_⟩
      try dsimp only
      rw [b_X3_visitRotations_33]
      simp (disch := omega) only [Option.bind_some, va_rf_some, va_rf_none, bI_rI, bI_rB, bV_rV, bB_0, bB_1, iI_add, iI_sub, iI_mul, iI_neg, rI_of, rV_of, Int.reduceToNat, Int.neg_neg, iI_lt, iI_le, iI_inj, Int.toNat_natCast, Int.lt_irrefl, if_true, if_false, reduceIte, g.1.i1, hk', c2.w2, g2.1.k, hfit, decide_eq_false cm]
      (try rfl)) (hs, x0) ⟨hJ, P⟩
  refine ⟨hs', x', some (.int (iI (((s 0).toNat : Nat) : Int))), Eq.trans e ?_, i1, i2⟩
  try dsimp only
  rw [b_X3_visitRotations_33]
  simp (disch := omega) only [Option.bind_some, va_rf_some, va_rf_none, bI_rI, bI_rB, bV_rV, bB_0, bB_1, iI_add, iI_sub, iI_mul, iI_neg, rI_of, rV_of, Int.reduceToNat, Int.neg_neg, iI_lt, iI_le, iI_inj, Int.toNat_natCast, Int.lt_irrefl, if_true, if_false, reduceIte, (V.1 _ _ i1).1.i1, hn]
theorem c_vis15 {f : Int → Int → Int → Int → σ → σ} {J : σ → tHS → Prop} (V : Vw G D M a s vi q sv f J) (hD : Dm s) (hB : RB s) {sh r : Int} {u : Option Value} (h1 : 0 ≤ sh) (h2 : sh ≤ 4) (h3 : 0 ≤ r) (h4 : r ≤ 3) {st : σ} {hs : tHS} {x0 y0 : Int} (hJ : J st hs) (P : PL G (fun _ => True) hs.1 q sh r x0 y0) :
    ∃ hs' x' y' u' u'', t_Ev (t_pg G) t_hd Y_X3_visitRotations 15 ([some (.ref a), some (.ref q), some (.ref vi), some (.int (iI r)), some (.int (iI 0)), u], [], hs) = t_Ev (t_pg G) t_hd Y_X3_visitRotations 2 ([some (.ref a), some (.ref q), some (.ref vi), some (.int (iI (r + 1))), u', u''], [], hs') ∧ J (vY s f sh r st) hs' ∧ PL G (fun _ => True) hs'.1 q sh r x' y' := by
  have hd := hD.2
  have hn := tn_of hd.1
  obtain ⟨⟨hs', x', y', u'⟩, ⟨i1, i2⟩, e⟩ := lp_ik (N := (s 1).toNat) (σ := tHS × Int × Int × Option Value) (I := fun k c => J (fd (fun y st => vX s f sh r y st) k st) c.1 ∧ PL G (fun _ => True) c.1.1 q sh r c.2.1 c.2.2.1) (F := fun k c => t_Ev (t_pg G) t_hd Y_X3_visitRotations 15 ([some (.ref a), some (.ref q), some (.ref vi), some (.int (iI r)), some (.int (iI (k : Int))), c.2.2.2], [], c.1)) (fun k hk c hc => by
    obtain ⟨c1, c2⟩ := hc
    have hk' : (k : Int) < s 1 := by omega
    have g := V.1 _ _ c1
    have j2 := V.2.1 _ c.1 _ [.ref (G.1 sh.toNat), .int (iI r), .int (iI c.2.1), .int (iI (k : Int))] c1 c2.2
    obtain ⟨hs3, x3, u3, f1, f2, f3⟩ := c_vis33 V hD hB h1 h2 h3 h4 (y := k) (by omega) j2 PL.up
    refine ⟨(hs3, x3, (k : Int), u3), ⟨by rw [fd]; exact f2, f3⟩, ?_⟩
    try dsimp only
    rw [b_X3_visitRotations_15]
    simp (disch := omega) only [Option.bind_some, va_rf_some, va_rf_none, bI_rI, bI_rB, bV_rV, bB_0, bB_1, iI_add, iI_sub, iI_mul, iI_neg, rI_of, rV_of, Int.reduceToNat, Int.neg_neg, iI_lt, iI_le, iI_inj, Int.toNat_natCast, Int.lt_irrefl, if_true, if_false, reduceIte, g.1.i2, hk', c2.w3]
    exact f1) (hs, x0, y0, u) ⟨hJ, P⟩
  refine ⟨hs', x', y', some (.int (iI (((s 1).toNat : Nat) : Int))), u', Eq.trans e ?_, i1, i2⟩
  try dsimp only
  rw [b_X3_visitRotations_15]
  simp (disch := omega) only [Option.bind_some, va_rf_some, va_rf_none, bI_rI, bI_rB, bV_rV, bB_0, bB_1, iI_add, iI_sub, iI_mul, iI_neg, rI_of, rV_of, Int.reduceToNat, Int.neg_neg, iI_lt, iI_le, iI_inj, Int.toNat_natCast, Int.lt_irrefl, if_true, if_false, reduceIte, (V.1 _ _ i1).1.i2, hn]
theorem c_visitRotations {f : Int → Int → Int → Int → σ → σ} {J : σ → tHS → Prop} (V : Vw G D M a s vi q sv f J) (hD : Dm s) (hB : RB s) {sh : Int} (h1 : 0 ≤ sh) (h2 : sh ≤ 4) {st : σ} {hs : tHS} {r0 x0 y0 : Int} (hJ : J st hs) (P : PL G (fun _ => True) hs.1 q sh r0 x0 y0) :
    ∃ hs' r' x' y', t_Ev (t_pg G) t_hd Y_X3_visitRotations 0 ([some (.ref a), some (.ref q), some (.ref vi), none, none, none], [], hs) = rV hs' ∧ J (vR s f sh st) hs' ∧ PL G (fun _ => True) hs'.1 q sh r' x' y' := by
  rw [b_X3_visitRotations_0]
  obtain ⟨⟨hs', r', x', y', u', u''⟩, ⟨i1, i2⟩, e⟩ := lp_ik (N := 4) (σ := tHS × Int × Int × Int × Option Value × Option Value) (I := fun k c => J (fd (fun r st => vY s f sh r st) k st) c.1 ∧ PL G (fun _ => True) c.1.1 q sh c.2.1 c.2.2.1 c.2.2.2.1) (F := fun k c => t_Ev (t_pg G) t_hd Y_X3_visitRotations 2 ([some (.ref a), some (.ref q), some (.ref vi), some (.int (iI (k : Int))), c.2.2.2.2.1, c.2.2.2.2.2], [], c.1)) (fun k hk c hc => by
    obtain ⟨c1, c2⟩ := hc
    have hk' : (k : Int) < 4 := by omega
    have j2 := V.2.1 _ c.1 _ [.ref (G.1 sh.toNat), .int (iI (k : Int)), .int (iI c.2.2.1), .int (iI c.2.2.2.1)] c1 c2.2
    obtain ⟨hs3, x3, y3, u3, u4, f1, f2, f3⟩ := c_vis15 V hD hB (u := c.2.2.2.2.2) h1 h2 (r := k) (by omega) (by omega) j2 PL.up
    refine ⟨(hs3, (k : Int), x3, y3, u3, u4), ⟨by rw [fd]; exact f2, f3⟩, ?_⟩
    try dsimp only
    rw [b_X3_visitRotations_2]
    simp (disch := omega) only [Option.bind_some, va_rf_some, va_rf_none, bI_rI, bI_rB, bV_rV, bB_0, bB_1, iI_add, iI_sub, iI_mul, iI_neg, rI_of, rV_of, Int.reduceToNat, Int.neg_neg, iI_lt, iI_le, iI_inj, Int.toNat_natCast, Int.lt_irrefl, if_true, if_false, reduceIte, hk', c2.w1]
    exact f1) (hs, r0, x0, y0, none, none) ⟨hJ, P⟩
  refine ⟨hs', r', x', y', Eq.trans e ?_, i1, i2⟩
  try dsimp only
  rw [b_X3_visitRotations_2]
  rfl
/-- all shapes that the filter allows -/
theorem c_visitFitting {f : Int → Int → Int → Int → σ → σ} {φ : Int → Bool} {J : σ → tHS → Prop} {st : σ} {hs : tHS} (hF : Fi hs) (hsv : gfR hs.1 (.ref a) 2 0 = some (some sv)) (hS : SV G D hs.1 sv) (V : Vw G D M a s vi hs.2.1 sv f J)
    (hφ : ∀ st hs sh, J st hs → 0 ≤ sh → sh ≤ 4 → ∃ y' k vs, t_fn hs.1 (.ref fl) [(100, 161, 0, 2, 2), (102, 162, 0, 2, 1), (104, 163, 0, 2, 1), (106, 164, 0, 99, 0), (108, 165, 0, 99, 1)] = some (y', k, vs) ∧ t_Ev (t_pg G) t_hd y' 0 (t_l0 (vs ++ [.ref (G.1 sh.toNat)]) k, [], hs) = rB (φ sh) hs)
    (hJ : J st (t_al hs (true, 5, .inl [.ref (G.1 0), .int (iI 0), .int (iI 0), .int (iI 0)]) 4)) (hD : Dm s) (hB : RB s) :
    ∃ hs' sh' r' x' y', t_Ev (t_pg G) t_hd Y_X3_visitFitting 0 ([some (.ref a), some (.ref fl), some (.ref vi), none, none, none, none, none], [], hs) = rV hs' ∧ J (vF s φ f st) hs' ∧ PL G (fun _ => True) hs'.1 hs.2.1 sh' r' x' y' ∧ 0 ≤ sh' ∧ sh' ≤ 4 := by
  obtain ⟨d1, b1, fv, e2, e3⟩ := hS
  have hne : ∀ {z : Nat} {e : tEnt}, hs.1 z = some e → z ≠ hs.2.1 := fun h z => by rw [z, hF _ (Nat.le_refl _)] at h; cases h
  have hup : ∀ (e : tEnt) (z : Nat) (e' : tEnt), hs.1 z = some e' → t_up hs.1 hs.2.1 e z = some e' := fun e z e' hz => (t_up_n (hne hz)).trans hz
  have hane : a ≠ hs.2.1 := fun z => by
    rw [z] at hsv
    simp only [gfR, hF _ (Nat.le_refl _)] at hsv
    cases hsv
  have r1 : ∀ e : tEnt, gfR (t_up hs.1 hs.2.1 e) (.ref a) 2 0 = some (some sv) := fun e => (gfR_cg (t_up_n hane)).trans hsv
  have e30 : fv 0 = some (G.1 0) := e3 0 (by decide)
  have tup2 : ∀ (h : tAH) (z : Nat) (e e' : tEnt), t_up (t_up h z e) z e' = t_up h z e' := fun h z e e' => by
    funext w
    unfold t_up
    by_cases c : w = z <;> simp [c]
  rw [b_X3_visitFitting_0]
  simp only [show ∀ (e : tEnt) (n : Nat), t_al hs e n = (t_up hs.1 hs.2.1 e, hs.2.1 + 1, hs.2.2 + n) from fun _ _ => rfl, r1, Option.bind_some, va_rf_some]
  rw [ldR_at (z := 0) (hup _ _ _ e2) (by decide) (by decide) (by decide) (by decide)]
  simp only [Option.bind_some, Int.reduceToNat, e30, va_rf_some, b_X8_init_0]
  rw [pf_at t_up_s (Nat.le_of_ble_eq_true rfl)]
  simp only [Option.bind_some, tup2]
  rw [pf_at t_up_s (Nat.le_of_ble_eq_true rfl)]
  simp only [Option.bind_some, tup2]
  rw [pf_at t_up_s (Nat.le_of_ble_eq_true rfl)]
  simp only [Option.bind_some, tup2]
  rw [pf_at t_up_s (Nat.le_of_ble_eq_true rfl)]
  simp only [Option.bind_some, tup2, bndV_ret, r1, va_rf_some]
  rw [aLen_at (hup _ _ _ e2)]
  simp only [Option.bind_some]
  obtain ⟨⟨hs', sh', r', x', y', u'⟩, ⟨i1, i2, i3⟩, e⟩ := lp_ik (N := 5) (σ := tHS × Int × Int × Int × Int × Option Value) (I := fun k c => J (fd (fun sh st => if φ sh = true then vR s f sh st else st) k st) c.1 ∧ PL G (fun _ => True) c.1.1 hs.2.1 c.2.1 c.2.2.1 c.2.2.2.1 c.2.2.2.2.1 ∧ (0 ≤ c.2.1 ∧ c.2.1 ≤ 4)) (F := fun k c => t_Ev (t_pg G) t_hd Y_X3_visitFitting 31 ([some (.ref a), some (.ref fl), some (.ref vi), some (.ref hs.2.1), some (.ref sv), some (.int (iI 5)), some (.int (iI (k : Int))), c.2.2.2.2.2], [], c.1)) (fun k hk c hc => by
    obtain ⟨c1, c2, c3⟩ := hc
    have hk' : (k : Int) < 5 := by omega
    obtain ⟨-, -, d4, b4, fv4, e4, e5⟩ := V.1 _ _ c1
    obtain ⟨y', kk, vs, f1, f2⟩ := hφ _ _ (k : Int) c1 (by omega) (by omega)
    rw [Int.toNat_natCast] at f2
    have hst : t_Ev (t_pg G) t_hd Y_X3_visitFitting 31 ([some (.ref a), some (.ref fl), some (.ref vi), some (.ref hs.2.1), some (.ref sv), some (.int (iI 5)), some (.int (iI (k : Int))), c.2.2.2.2.2], [], c.1) = bndI (rB (φ k) c.1) (fun x_4 hs_3 => if x_4 = iI 0 then t_Ev (t_pg G) t_hd Y_X3_visitFitting 31 ([some (.ref a), some (.ref fl), some (.ref vi), some (.ref hs.2.1), some (.ref sv), some (.int (iI 5)), some (.int (iI (k : Int) + iI 1)), some (.ref (G.1 k))], [], hs_3) else (pfV hs_3.1 (.ref hs.2.1) 5 0 (.ref (G.1 k))).bind fun h_5 => (t_kN h_5 (.ref a) 2).bind fun a_6 => bndV (t_Ev (t_pg G) t_hd Y_X3_visitRotations 0 ([some (.ref a_6), some (.ref hs.2.1), some (.ref vi), none, none, none], [], (h_5, hs_3.2))) (fun hs_7 => t_Ev (t_pg G) t_hd Y_X3_visitFitting 31 ([some (.ref a), some (.ref fl), some (.ref vi), some (.ref hs.2.1), some (.ref sv), some (.int (iI 5)), some (.int (iI (k : Int) + iI 1)), some (.ref (G.1 k))], [], hs_7)) tX) tX := by
      rw [b_X3_visitFitting_31]
      simp (disch := omega) only [iI_lt, hk', if_true]
      rw [ldR_at e4 (by decide) (by omega) (by omega) (by decide), Int.toNat_natCast, e5 k hk]
      simp only [Option.bind_some, f1, va_rf_some]
      rw [f2]
    by_cases cf : φ (k : Int) = true
    · have hw : pfV c.1.1 (.ref hs.2.1) 5 0 (.ref (G.1 k)) = some (t_up c.1.1 hs.2.1 (true, 5, .inl [.ref (G.1 k), .int (iI c.2.2.1), .int (iI c.2.2.2.1), .int (iI c.2.2.2.2.1)])) := pf_at c2.2 (Nat.le_of_ble_eq_true rfl)
      have j2 := V.2.1 _ c.1 _ [.ref (G.1 k), .int (iI c.2.2.1), .int (iI c.2.2.2.1), .int (iI c.2.2.2.2.1)] c1 c2.2
      have p2 : PL G (fun _ => True) (t_up c.1.1 hs.2.1 (true, 5, .inl [.ref (G.1 k), .int (iI c.2.2.1), .int (iI c.2.2.2.1), .int (iI c.2.2.2.2.1)])) hs.2.1 (k : Int) c.2.2.1 c.2.2.2.1 c.2.2.2.2.1 := ⟨trivial, t_up_s⟩
      obtain ⟨hs3, r3, x3, y3, g1, g2, g3⟩ := c_visitRotations V hD hB (sh := k) (by omega) (by omega) j2 p2
      refine ⟨(hs3, (k : Int), r3, x3, y3, some (.ref (G.1 k))), ⟨by rw [fd, if_pos cf]; exact g2, g3, by dsimp only; omega⟩, ?_⟩
      try dsimp only
      rw [hst, cf]
      simp only [bI_rB, bB_0, Bool.true_eq_false, if_false, hw, Option.bind_some, (V.1 _ _ j2).1.k]
      rw [bV_ex g1]
      simp only [iI_add]
      (try rfl)
    · refine ⟨(c.1, c.2.1, c.2.2.1, c.2.2.2.1, c.2.2.2.2.1, some (.ref (G.1 k))), ⟨by rw [fd, if_neg cf]; exact c1, c2, c3⟩, ?_⟩
      try dsimp only
      rw [hst, Bool.eq_false_iff.mpr cf]
      simp only [bI_rB, bB_0, if_true, iI_add]
      (try rfl)) ((t_up hs.1 hs.2.1 (true, 5, .inl [.ref (G.1 0), .int (iI 0), .int (iI 0), .int (iI 0)]), hs.2.1 + 1, hs.2.2 + 4), 0, 0, 0, 0, none) ⟨hJ, ⟨trivial, t_up_s⟩, Int.le_refl 0, (by show (0:Int) ≤ 4; decide)⟩
  refine ⟨hs', sh', r', x', y', Eq.trans e ?_, i1, i2, i3⟩
  try dsimp only
  rw [b_X3_visitFitting_31]
  rfl
end VIS
