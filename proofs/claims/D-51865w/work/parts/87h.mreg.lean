/-! ===== regions: the model's labels ===== -/
def emB (s : tRow) (x y : Int) : Bool := inB s x y && decide (cI s x y = 0)
theorem emB_iff {s : tRow} {x y : Int} : emB s x y = true ↔ inB s x y = true ∧ cI s x y = 0 := by
  unfold emB
  rw [Bool.and_eq_true, decide_eq_true_iff]
/-- two empty neighbours, no strap between -/
def Jn (s : tRow) (a b : Nat) : Prop := ∃ x y u v : Int, (a = (8 * y + x).toNat ∧ b = (8 * v + u).toNat) ∧ (emB s x y = true ∧ emB s u v = true) ∧ ((u = x + 1 ∧ v = y) ∨ (u = x ∧ v = y + 1)) ∧ stN s x y u v = false
/-- labels on the way -/
def Lb (s : tRow) (L : Nat → Nat) : Prop := (∀ q, q < 64 → L q ≤ q) ∧ ∀ S : Nat → Prop, (∀ a b, Jn s a b → (S a ↔ S b)) → ∀ q, q < 64 → (S (L q) ↔ S q)
def LA (f : Nat → Int) (L : Nat → Nat) : Prop := ∀ q, q < 64 → f q = (L q : Int)
def su (L : Nat → Nat) : Int := sm (fun q => (L q : Int)) 64
theorem sm_mono {f g : Nat → Int} {n : Nat} (h : ∀ k, k < n → f k ≤ g k) : sm f n ≤ sm g n := by
  induction n with
  | zero => exact Int.le_refl 0
  | succ n ih =>
    have h1 := ih fun k hk => h k (Nat.lt_succ_of_lt hk)
    have h2 := h n (Nat.lt_succ_self n)
    rw [sm, sm]
    omega
theorem sm_lt {f g : Nat → Int} {n : Nat} (h : ∀ k, k < n → f k ≤ g k) {j : Nat} (hj : j < n) (h' : f j < g j) : sm f n < sm g n := by
  induction n with
  | zero => exact absurd hj (Nat.not_lt_zero j)
  | succ n ih =>
    have h2 := h n (Nat.lt_succ_self n)
    rw [sm, sm]
    by_cases c : j = n
    · subst c
      have h1 := sm_mono (f := f) (g := g) (n := j) fun k hk => h k (Nat.lt_succ_of_lt hk)
      omega
    · have := ih (fun k hk => h k (Nat.lt_succ_of_lt hk)) (by omega)
      omega
/-- two labels become the lesser -/
def jL (L : Nat → Nat) (a b : Nat) : Nat → Nat := fun q => if q = a ∨ q = b then min (L a) (L b) else L q
theorem jL_eq {L : Nat → Nat} {a b : Nat} (h : L a = L b) : jL L a b = L := by
  funext q
  unfold jL
  by_cases c : q = a ∨ q = b
  · rw [if_pos c]
    rcases c with rfl | rfl <;> omega
  · rw [if_neg c]
theorem jL_le {L : Nat → Nat} {a b q : Nat} : jL L a b q ≤ L q := by
  unfold jL
  by_cases c : q = a ∨ q = b
  · rw [if_pos c]
    rcases c with rfl | rfl <;> omega
  · rw [if_neg c]; exact Nat.le_refl _
theorem jL_lt {L : Nat → Nat} {a b : Nat} (ha : a < 64) (hb : b < 64) (h : L a ≠ L b) : su (jL L a b) < su L := by
  have le : ∀ k, k < 64 → (jL L a b k : Int) ≤ (L k : Int) := fun k _ => Int.ofNat_le.mpr jL_le
  by_cases c : L a < L b
  · refine sm_lt le hb (Int.ofNat_lt.mpr ?_)
    unfold jL
    rw [if_pos (Or.inr rfl)]
    omega
  · refine sm_lt le ha (Int.ofNat_lt.mpr ?_)
    unfold jL
    rw [if_pos (Or.inl rfl)]
    omega
theorem jL_Lb {s : tRow} {L : Nat → Nat} {a b : Nat} (ha : a < 64) (hb : b < 64) (lb : Lb s L) (j : Jn s a b) : Lb s (jL L a b) := by
  refine ⟨fun q hq => Nat.le_trans jL_le (lb.1 q hq), fun S hS q hq => ?_⟩
  have sa := lb.2 S hS a ha
  have sb := lb.2 S hS b hb
  have sj := hS a b j
  have sq := lb.2 S hS q hq
  unfold jL
  by_cases c : q = a ∨ q = b
  · rw [if_pos c]
    have m : S (min (L a) (L b)) ↔ S a := by
      rcases Nat.le_total (L a) (L b) with h | h
      · rw [Nat.min_eq_left h]; exact sa
      · rw [Nat.min_eq_right h]; exact sb.trans sj.symm
    rcases c with rfl | rfl
    · exact m
    · exact m.trans sj
  · rw [if_neg c]; exact sq
/-- no label is to change here -/
def Ck (s : tRow) (L : Nat → Nat) (x y u v : Int) : Prop := emB s x y = true ∧ emB s u v = true ∧ stN s x y u v = false → L (8 * y + x).toNat = L (8 * v + u).toNat
section MRG
variable {G : tG} {m : Nat} {fi : Nat → Int} {ar : Nat → Nat → Int} {g : tAH} {z : Nat × Nat}
theorem e_joins (hD : Dm (ar 0)) (hB : RB (ar 0)) {x y u v : Int} (h1 : 0 ≤ x ∧ x ≤ 7) (h2 : 0 ≤ y ∧ y ≤ 7) (hn : (u = x + 1 ∧ v = y) ∨ (u = x ∧ v = y + 1)) {L : Nat → Nat} (la : LA (ar 12) L) (lb : Lb (ar 0) L) : ∃ c ar' L', t_Ev (t_pg G) t_hd Y_X5_joins 0 ([some (.ref m), some (.int (iI x)), some (.int (iI y)), some (.int (iI u)), some (.int (iI v)), none, none], [], (hM m fi ar g, z)) = rB c (hM m fi ar' g, z) ∧ Sc [] [12] fi ar fi ar' ∧ LA (ar' 12) L' ∧ Lb (ar 0) L' ∧ (c = false → L' = L ∧ Ck (ar 0) L x y u v) ∧ (c = true → su L' < su L) := by
  have e1 : t_Ev (t_pg G) t_hd Y_X5_isEmpty 0 ([some (.ref m), some (.int (iI x)), some (.int (iI y))], [], (hM m fi ar g, z)) = rB (emB (ar 0) x y) (hM m fi ar g, z) := e_isEmpty hD (by omega) (by omega) (by omega) (by omega) hB
  have e2 : t_Ev (t_pg G) t_hd Y_X5_isEmpty 0 ([some (.ref m), some (.int (iI u)), some (.int (iI v))], [], (hM m fi ar g, z)) = rB (emB (ar 0) u v) (hM m fi ar g, z) := e_isEmpty hD (by omega) (by omega) (by omega) (by omega) hB
  rw [b_X5_joins_0, mK, Option.bind_some, e1, bI_rB]
  simp only [bB_0]
  cases c1 : emB (ar 0) x y with
  | false => exact ⟨false, ar, L, rfl, Sc.refl, la, lb, fun _ => ⟨rfl, fun h => absurd h.1 (by rw [c1]; decide)⟩, fun h => nomatch h⟩
  | true =>
    rw [if_neg (by decide), mK, Option.bind_some, e2, bI_rB]
    simp only [bB_0]
    cases c2 : emB (ar 0) u v with
    | false => exact ⟨false, ar, L, rfl, Sc.refl, la, lb, fun _ => ⟨rfl, fun h => absurd h.2.1 (by rw [c2]; decide)⟩, fun h => nomatch h⟩
    | true =>
      have i2 := inB_7 hD (emB_iff.mp c2).1
      rw [if_neg (by decide), mK, Option.bind_some, e_isStrapped hB h1 h2 (by omega) (by omega), bI_rB]
      simp only [bB_0]
      cases c3 : stN (ar 0) x y u v with
      | true => exact ⟨false, ar, L, rfl, Sc.refl, la, lb, fun _ => ⟨rfl, fun h => absurd h.2.2 (by rw [c3]; decide)⟩, fun h => nomatch h⟩
      | false =>
        rw [if_pos rfl]
        obtain ⟨a, ha⟩ : ∃ a, a = (8 * y + x).toNat := ⟨_, rfl⟩
        obtain ⟨b, hb⟩ : ∃ b, b = (8 * v + u).toNat := ⟨_, rfl⟩
        have a64 : a < 64 := by omega
        have b64 : b < 64 := by omega
        have va := la a a64
        have vb := la b b64
        have la1 := lb.1 a a64
        have lb1 := lb.1 b b64
        have jn : Jn (ar 0) a b := ⟨x, y, u, v, ⟨ha, hb⟩, ⟨c1, c2⟩, hn, c3⟩
        have vm : min (ar 12 a) (ar 12 b) = ((min (L a) (L b) : Nat) : Int) := by rw [va, vb]; omega
        simp (disch := omega) only [mgR12, Option.bind_some, va_rf_some, e_at, bI_rI, mld12, ← ha, ← hb, e_min, mst12, iI_inj]
        refine ⟨decide (L a ≠ L b), aU (aU ar 12 a (min (ar 12 a) (ar 12 b))) 12 b (min (ar 12 a) (ar 12 b)), jL L a b, ?_, (Sc.refl.aU (by decide)).aU (by decide), fun q hq => ?_, jL_Lb a64 b64 lb jn, fun h => ?_, fun h => jL_lt a64 b64 (of_decide_eq_true h)⟩
        · by_cases c : L a = L b
          · rw [if_pos (by rw [va, vb, c]), decide_eq_false (fun h => h c)]; rfl
          · rw [if_neg (by omega), decide_eq_true c]; rfl
        · rw [aU_s]
          unfold jL
          by_cases cb : q = b
          · subst cb
            rw [fU_s, if_pos (Or.inr rfl), vm]
          · rw [fU_n cb, aU_s]
            by_cases ca : q = a
            · subst ca
              rw [fU_s, if_pos (Or.inl rfl), vm]
            · rw [fU_n ca, if_neg (by omega), la q hq]
        · have h' := of_decide_eq_false h
          have e : L a = L b := Decidable.of_not_not h'
          exact ⟨jL_eq e, fun _ => by rw [← ha, ← hb]; exact e⟩
/-- what a pass keeps -/
def Ps (s : tRow) (L0 : Nat → Nat) (f : Nat → Int) (L : Nat → Nat) (b : Bool) (P : Nat → Nat → Prop) : Prop := LA f L ∧ Lb s L ∧ su L ≤ su L0 ∧ (b = true → su L < su L0) ∧ (b = false → ∀ x y : Nat, P x y → Ck s L x y (x + 1) y ∧ Ck s L x y x (y + 1))
theorem e_fr43 (hD : Dm (ar 0)) (hB : RB (ar 0)) {L0 L : Nat → Nat} {b : Bool} {y : Nat} (hy : (y : Int) < ar 0 1) (p : Ps (ar 0) L0 (ar 12) L b (fun _ y' => y' < y)) : ∃ ar' L' b', t_Ev (t_pg G) t_hd Y_X5_findRegions 43 ([some (.ref m), some (.int (iI (bB b))), some (.int (iI y)), some (.int (iI 0))], [], (hM m fi ar g, z)) = t_Ev (t_pg G) t_hd Y_X5_findRegions 31 ([some (.ref m), some (.int (iI (bB b'))), some (.int (iI ((y + 1 : Nat) : Int))), some (.int (iI (ar 0 0)))], [], (hM m fi ar' g, z)) ∧ Sc [] [12] fi ar fi ar' ∧ Ps (ar 0) L0 (ar' 12) L' b' (fun x' y' => (x' : Int) < ar 0 0 ∧ y' < y + 1) := by
  have h0 := tn_of hD.1.1
  have hD0 := hD.1
  have hD1 := hD.2
  obtain ⟨⟨ar', L', b'⟩, ⟨i1, i2⟩, e⟩ := lp_ik (N := (ar 0 0).toNat) (σ := (Nat → Nat → Int) × (Nat → Nat) × Bool) (I := fun k c => Sc [] [12] fi ar fi c.1 ∧ Ps (ar 0) L0 (c.1 12) c.2.1 c.2.2 (fun x' y' => ((x' : Int) < ar 0 0 ∧ y' < y) ∨ (y' = y ∧ x' < k))) (F := fun k c => t_Ev (t_pg G) t_hd Y_X5_findRegions 43 ([some (.ref m), some (.int (iI (bB c.2.2))), some (.int (iI y)), some (.int (iI (k : Int)))], [], (hM m fi c.1 g, z))) (fun k hk c ⟨i1, i2⟩ => by
    obtain ⟨a1, L1, b1⟩ := c
    dsimp only at i1 i2 ⊢
    have hs0 : a1 0 = ar 0 := i1.2 0 (by decide)
    have hD' : Dm (a1 0) := by rw [hs0]; exact hD
    have hB' : RB (a1 0) := by rw [hs0]; exact hB
    obtain ⟨p1, p2, p3, p4, p5⟩ := i2
    rw [b_X5_findRegions_43]
    simp (disch := omega) only [mK, mgI6, mgI7, mgI13, mgI14, mgI15, mgI16, mgI17, mgI18, mgI19, mgI20, mgI21, mgI22, mgI23, mgI24, mgI25, mgI26, mgI27, mgR0, mgR1, mgR2, mgR3, mgR4, mgR5, mgR8, mgR9, mgR10, mgR11, mgR12, Option.bind_some, va_rf_some, va_rf_none, bI_rI, bI_rB, bV_rV, bB_0, bB_1, iI_add, iI_sub, iI_mul, iI_neg, rI_of, rV_of, Int.reduceToNat, Int.neg_neg, mld0, iI_lt, hs0]
    rw [if_pos (show (k : Int) < ar 0 0 by omega)]
    obtain ⟨c2, a2, L2, e2, s2, la2, lb2, f2, t2⟩ := e_joins (G := G) (m := m) (fi := fi) (ar := a1) (g := g) (z := z) hD' hB' (x := k) (y := y) (u := k + 1) (v := y) (by omega) (by omega) (Or.inl ⟨rfl, rfl⟩) p1 (by rw [hs0]; exact p2)
    have hs2 : a2 0 = ar 0 := (s2.2 0 (by decide)).trans hs0
    have hD2 : Dm (a2 0) := by rw [hs2]; exact hD
    have hB2 : RB (a2 0) := by rw [hs2]; exact hB
    obtain ⟨c3, a3, L3, e3, s3, la3, lb3, f3, t3⟩ := e_joins (G := G) (m := m) (fi := fi) (ar := a2) (g := g) (z := z) hD2 hB2 (x := k) (y := y) (u := k) (v := y + 1) (by omega) (by omega) (Or.inr ⟨rfl, rfl⟩) la2 (by rw [hs2, ← hs0]; exact lb2)
    have step : ∀ b4 : Bool, t_Ev (t_pg G) t_hd Y_X5_findRegions 68 ([some (.ref m), some (.int (iI (bB b4))), some (.int (iI y)), some (.int (iI (k : Int)))], [], (hM m fi a2 g, z)) = t_Ev (t_pg G) t_hd Y_X5_findRegions 43 ([some (.ref m), some (.int (iI (bB (or b4 c3)))), some (.int (iI y)), some (.int (iI ((k + 1 : Nat) : Int)))], [], (hM m fi a3 g, z)) := fun b4 => by
      rw [b_X5_findRegions_68, mK, Option.bind_some, iI_add, e3, bI_rB]
      simp only [bB_0, iI_add]
      cases c3 <;> cases b4 <;> rfl
    refine ⟨(a3, L3, b1 || c2 || c3), ⟨(i1.trans s2).trans s3, ?_⟩, ?_⟩
    · rw [hs0] at lb2 f2
      rw [hs2] at lb3 f3
      refine ⟨la3, lb3, ?_, fun h => ?_, fun h x' y' hp => ?_⟩
      · show su L3 ≤ su L0
        have q2 : su L2 ≤ su L1 := by
          cases c2 with
          | false => rw [(f2 rfl).1]; exact Int.le_refl _
          | true => exact Int.le_of_lt (t2 rfl)
        have q3 : su L3 ≤ su L2 := by
          cases c3 with
          | false => rw [(f3 rfl).1]; exact Int.le_refl _
          | true => exact Int.le_of_lt (t3 rfl)
        omega
      · show su L3 < su L0
        have q2 : su L2 ≤ su L1 := by
          cases c2 with
          | false => rw [(f2 rfl).1]; exact Int.le_refl _
          | true => exact Int.le_of_lt (t2 rfl)
        have q3 : su L3 ≤ su L2 := by
          cases c3 with
          | false => rw [(f3 rfl).1]; exact Int.le_refl _
          | true => exact Int.le_of_lt (t3 rfl)
        cases c3 with
        | true => have := t3 rfl; omega
        | false =>
          cases c2 with
          | true => have := t2 rfl; omega
          | false =>
            cases b1 with
            | true => have := p4 rfl; omega
            | false => exact absurd (show (false || false || false) = true from h) (by decide)
      · show Ck (ar 0) L3 x' y' (x' + 1) y' ∧ Ck (ar 0) L3 x' y' x' (y' + 1)
        have h : (b1 || c2 || c3) = false := h
        cases b1 with
        | true => exact absurd h (by cases c2 <;> cases c3 <;> decide)
        | false =>
          cases c2 with
          | true => exact absurd h (by cases c3 <;> decide)
          | false =>
            cases c3 with
            | true => exact absurd h (by decide)
            | false =>
              obtain ⟨e2', k2⟩ := f2 rfl
              obtain ⟨e3', k3⟩ := f3 rfl
              rw [e3', e2']
              rw [e2'] at k3
              rcases hp with hp | ⟨hp1, hp2⟩
              · exact p5 rfl x' y' (Or.inl hp)
              · by_cases cx : x' < k
                · exact p5 rfl x' y' (Or.inr ⟨hp1, cx⟩)
                · have : x' = k := by omega
                  subst this; subst hp1
                  exact ⟨k2, k3⟩
    · rw [e2, bI_rB]
      simp only [bB_0]
      have s := step (b1 || c2)
      cases c2 with
      | false => rw [if_pos rfl]; rw [Bool.or_false] at s ⊢; exact s
      | true => rw [if_neg (by decide)]; rw [Bool.or_true] at s ⊢; exact s) (ar, L, b) ⟨Sc.refl, p.1, p.2.1, p.2.2.1, p.2.2.2.1, fun h x' y' hp => p.2.2.2.2 h x' y' (by rcases hp with hp | hp <;> omega)⟩
  dsimp only at i1 i2 e
  refine ⟨ar', L', b', Eq.trans e ?_, i1, i2.1, i2.2.1, i2.2.2.1, i2.2.2.2.1, fun h x' y' hp => i2.2.2.2.2 h x' y' (by by_cases c : y' < y <;> omega)⟩
  have hs0 : ar' 0 = ar 0 := i1.2 0 (by decide)
  rw [b_X5_findRegions_43]
  simp (disch := omega) only [mK, mgI6, mgI7, mgI13, mgI14, mgI15, mgI16, mgI17, mgI18, mgI19, mgI20, mgI21, mgI22, mgI23, mgI24, mgI25, mgI26, mgI27, mgR0, mgR1, mgR2, mgR3, mgR4, mgR5, mgR8, mgR9, mgR10, mgR11, mgR12, Option.bind_some, va_rf_some, va_rf_none, bI_rI, bI_rB, bV_rV, bB_0, bB_1, iI_add, iI_sub, iI_mul, iI_neg, rI_of, rV_of, Int.reduceToNat, Int.neg_neg, mld0, iI_lt, hs0]
  rw [if_neg (by omega), h0]
  rfl
theorem e_fr31 (hD : Dm (ar 0)) (hB : RB (ar 0)) {L : Nat → Nat} (la : LA (ar 12) L) (lb : Lb (ar 0) L) {u : Option Value} : ∃ ar' L' b' u', t_Ev (t_pg G) t_hd Y_X5_findRegions 31 ([some (.ref m), some (.int (iI 0)), some (.int (iI 0)), u], [], (hM m fi ar g, z)) = t_Ev (t_pg G) t_hd Y_X5_findRegions 23 ([some (.ref m), some (.int (iI (bB b'))), some (.int (iI (ar 0 1))), u'], [], (hM m fi ar' g, z)) ∧ Sc [] [12] fi ar fi ar' ∧ Ps (ar 0) L (ar' 12) L' b' (fun x' y' => (x' : Int) < ar 0 0 ∧ (y' : Int) < ar 0 1) := by
  have h1 := tn_of hD.2.1
  have hD0 := hD.1
  have hD1 := hD.2
  obtain ⟨⟨ar', L', b', u'⟩, ⟨i1, i2⟩, e⟩ := lp_ik (N := (ar 0 1).toNat) (σ := (Nat → Nat → Int) × (Nat → Nat) × Bool × Option Value) (I := fun k c => Sc [] [12] fi ar fi c.1 ∧ Ps (ar 0) L (c.1 12) c.2.1 c.2.2.1 (fun x' y' => (x' : Int) < ar 0 0 ∧ y' < k)) (F := fun k c => t_Ev (t_pg G) t_hd Y_X5_findRegions 31 ([some (.ref m), some (.int (iI (bB c.2.2.1))), some (.int (iI (k : Int))), c.2.2.2], [], (hM m fi c.1 g, z))) (fun k hk c ⟨i1, i2⟩ => by
    obtain ⟨a1, L1, b1, u1⟩ := c
    dsimp only at i1 i2 ⊢
    have hs0 : a1 0 = ar 0 := i1.2 0 (by decide)
    rw [b_X5_findRegions_31]
    simp (disch := omega) only [mK, mgI6, mgI7, mgI13, mgI14, mgI15, mgI16, mgI17, mgI18, mgI19, mgI20, mgI21, mgI22, mgI23, mgI24, mgI25, mgI26, mgI27, mgR0, mgR1, mgR2, mgR3, mgR4, mgR5, mgR8, mgR9, mgR10, mgR11, mgR12, Option.bind_some, va_rf_some, va_rf_none, bI_rI, bI_rB, bV_rV, bB_0, bB_1, iI_add, iI_sub, iI_mul, iI_neg, rI_of, rV_of, Int.reduceToNat, Int.neg_neg, mld0, iI_lt, hs0]
    rw [if_pos (show (k : Int) < ar 0 1 by omega)]
    obtain ⟨a2, L2, b2, e2, s2, p2⟩ := e_fr43 (G := G) (m := m) (fi := fi) (ar := a1) (g := g) (z := z) (L0 := L) (L := L1) (b := b1) (y := k) (by rw [hs0]; exact hD) (by rw [hs0]; exact hB) (by rw [hs0]; omega) (by
      rw [hs0]
      refine ⟨i2.1, i2.2.1, i2.2.2.1, i2.2.2.2.1, fun h x' y' hp => ?_⟩
      by_cases c : (x' : Int) < ar 0 0
      · exact i2.2.2.2.2 h x' y' ⟨c, hp⟩
      · exact ⟨fun q => absurd (inB_iff.mp (emB_iff.mp q.1).1) (by omega), fun q => absurd (inB_iff.mp (emB_iff.mp q.1).1) (by omega)⟩)
    rw [hs0] at e2 p2
    exact ⟨(a2, L2, b2, some (.int (iI (ar 0 0)))), ⟨i1.trans s2, p2⟩, e2⟩) (ar, L, false, u) ⟨Sc.refl, la, lb, Int.le_refl _, (fun h => nomatch h), fun _ x' y' hp => absurd hp.2 (Nat.not_lt_zero _)⟩
  dsimp only at i1 i2 e
  refine ⟨ar', L', b', u', Eq.trans e ?_, i1, i2.1, i2.2.1, i2.2.2.1, i2.2.2.2.1, fun h x' y' hp => i2.2.2.2.2 h x' y' (by omega)⟩
  have hs0 : ar' 0 = ar 0 := i1.2 0 (by decide)
  rw [b_X5_findRegions_31]
  simp (disch := omega) only [mK, mgI6, mgI7, mgI13, mgI14, mgI15, mgI16, mgI17, mgI18, mgI19, mgI20, mgI21, mgI22, mgI23, mgI24, mgI25, mgI26, mgI27, mgR0, mgR1, mgR2, mgR3, mgR4, mgR5, mgR8, mgR9, mgR10, mgR11, mgR12, Option.bind_some, va_rf_some, va_rf_none, bI_rI, bI_rB, bV_rV, bB_0, bB_1, iI_add, iI_sub, iI_mul, iI_neg, rI_of, rV_of, Int.reduceToNat, Int.neg_neg, mld0, iI_lt, hs0]
  rw [if_neg (by omega), h1]
/-- labels at rest -/
def Lf (s : tRow) (L : Nat → Nat) : Prop := Lb s L ∧ ∀ a b, Jn s a b → L a = L b
theorem e_fr23 (hD : Dm (ar 0)) (hB : RB (ar 0)) : ∀ (n : Nat) {ar' : Nat → Nat → Int} {L : Nat → Nat} (_ : su L < n) (_ : Sc [] [12] fi ar fi ar') (_ : LA (ar' 12) L) (_ : Lb (ar 0) L) {u u2 : Option Value}, ∃ a2 L2, t_Ev (t_pg G) t_hd Y_X5_findRegions 23 ([some (.ref m), some (.int (iI 1)), u, u2], [], (hM m fi ar' g, z)) = rV (hM m fi a2 g, z) ∧ Sc [] [12] fi ar fi a2 ∧ LA (a2 12) L2 ∧ Lf (ar 0) L2 := by
  intro n
  induction n with
  | zero => intro ar' L h; exact absurd (sm_ge (n := 64) (f := fun q => (L q : Int)) fun k _ => by omega) (by unfold su at h; omega)
  | succ n ih =>
    intro ar' L h sc la lb u u2
    have hs0 : ar' 0 = ar 0 := sc.2 0 (by decide)
    rw [b_X5_findRegions_23, if_neg (by decide)]
    obtain ⟨a1, L1, b1, u1, e1, s1, p1⟩ := e_fr31 (G := G) (m := m) (fi := fi) (ar := ar') (g := g) (z := z) (by rw [hs0]; exact hD) (by rw [hs0]; exact hB) la (by rw [hs0]; exact lb) (u := u2)
    rw [hs0] at p1
    obtain ⟨p1, p2, p3, p4, p5⟩ := p1
    have e1' := e1
    cases b1 with
    | true =>
      have lt := p4 rfl
      obtain ⟨a2, L2, e2, r2⟩ := ih (L := L1) (ar' := a1) (by omega) (sc.trans s1) p1 p2 (u := some (.int (iI (ar' 0 1)))) (u2 := u1)
      exact ⟨a2, L2, e1.trans e2, r2⟩
    | false =>
      refine ⟨a1, L1, e1.trans ?_, sc.trans s1, p1, p2, ?_⟩
      · rw [b_X5_findRegions_23]; rfl
      · rintro a b ⟨x, y, u, v, ⟨ha, hb⟩, ⟨c1, c2⟩, hn, c3⟩
        have i1 := inB_iff.mp (emB_iff.mp c1).1
        obtain ⟨x', hx⟩ := Int.eq_ofNat_of_zero_le i1.1.1
        obtain ⟨y', hy⟩ := Int.eq_ofNat_of_zero_le i1.2.1
        subst hx; subst hy
        have q := p5 rfl x' y' ⟨i1.1.2, i1.2.2⟩
        rcases hn with ⟨rfl, rfl⟩ | ⟨rfl, rfl⟩
        · rw [ha, hb]; exact q.1 ⟨c1, c2, c3⟩
        · rw [ha, hb]; exact q.2 ⟨c1, c2, c3⟩
theorem e_findRegions (hD : Dm (ar 0)) (hB : RB (ar 0)) : ∃ a2 L2, t_Ev (t_pg G) t_hd Y_X5_findRegions 0 ([some (.ref m), none, none, none], [], (hM m fi ar g, z)) = rV (hM m fi a2 g, z) ∧ Sc [] [12] fi ar fi a2 ∧ LA (a2 12) L2 ∧ Lf (ar 0) L2 := by
  obtain ⟨a1, ⟨i1, i2⟩, e⟩ := lp_ik (N := 64) (σ := Nat → Nat → Int) (I := fun k c => Sc [] [12] fi ar fi c ∧ ∀ q, q < k → c 12 q = (q : Int)) (F := fun k c => t_Ev (t_pg G) t_hd Y_X5_findRegions 2 ([some (.ref m), some (.int (iI (k : Int))), none, none], [], (hM m fi c g, z))) (fun k hk c ⟨i1, i2⟩ => by
    refine ⟨aU c 12 k k, ⟨i1.aU (by decide), fun q hq => ?_⟩, ?_⟩
    · rw [aU_s]
      by_cases c1 : q = k
      · subst c1; exact fU_s
      · rw [fU_n c1]; exact i2 q (by omega)
    · rw [b_X5_findRegions_2]
      simp (disch := omega) only [iI_lt, mgR12, Option.bind_some, va_rf_some, mst12, iI_add, Int.toNat_natCast]
      rw [if_pos (by omega)]
      rfl) ar ⟨Sc.refl, fun q hq => absurd hq (Nat.not_lt_zero q)⟩
  obtain ⟨a2, L2, e2, r⟩ := e_fr23 (G := G) (m := m) (fi := fi) (ar := ar) (g := g) (z := z) hD hB ((su fun q => q).toNat + 1) (ar' := a1) (L := fun q => q) (by omega) i1 i2 ⟨fun q _ => Nat.le_refl q, fun S _ q _ => Iff.rfl⟩ (u := none) (u2 := none)
  refine ⟨a2, L2, ?_, r⟩
  rw [b_X5_findRegions_0]
  refine Eq.trans e (Eq.trans ?_ e2)
  rw [b_X5_findRegions_2]
  rfl
end MRG
