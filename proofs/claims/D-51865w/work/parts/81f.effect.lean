/-! ===== the component: straps' effect, reachable cells, counts ===== -/
/-- one pair of cells of a placement, counted at its edge -/
def ceS (sh r x y : Int) (k o : Nat) (acc : Nat → Int) : Nat → Int :=
  if (cX sh r x o - cX sh r x k) + (cY sh r y o - cY sh r y k) = 1 ∧ (cX sh r x o - cX sh r x k) * (cY sh r y o - cY sh r y k) = 0 then
    fU acc ((if cX sh r x o - cX sh r x k = 1 then 0 else 64) + (cY sh r y k * 8 + cX sh r x k)).toNat (acc ((if cX sh r x o - cX sh r x k = 1 then 0 else 64) + (cY sh r y k * 8 + cX sh r x k)).toNat + 1)
  else acc
def ceF (sh r x y : Int) (acc : Nat → Int) : Nat → Int := fd (fun k acc => fd (fun o acc => ceS sh r x y k o acc) (shN sh) acc) (shN sh) acc
theorem mul_b {a b : Int} (h1 : -7 ≤ a) (h2 : a ≤ 7) (h3 : -7 ≤ b) (h4 : b ≤ 7) : -49 ≤ a * b ∧ a * b ≤ 49 := by
  rcases (show a = -7 ∨ a = -6 ∨ a = -5 ∨ a = -4 ∨ a = -3 ∨ a = -2 ∨ a = -1 ∨ a = 0 ∨ a = 1 ∨ a = 2 ∨ a = 3 ∨ a = 4 ∨ a = 5 ∨ a = 6 ∨ a = 7 by omega) with rfl | rfl | rfl | rfl | rfl | rfl | rfl | rfl | rfl | rfl | rfl | rfl | rfl | rfl | rfl <;> omega
theorem mf_in {s : tRow} (hD : Dm s) {sh r x y : Int} (h : mf s sh r x y = 0) : ∀ k, k < shN sh → (inB s (cX sh r x k) (cY sh r y k) = true ∧ cI s (cX sh r x k) (cY sh r y k) ≠ 1 ∧ cI s (cX sh r x k) (cY sh r y k) < 2) ∧ (0 ≤ cX sh r x k ∧ cX sh r x k ≤ 7) ∧ 0 ≤ cY sh r y k ∧ cY sh r y k ≤ 7 := fun k hk => by
  unfold mf at h
  have hd := hD.1
  have hd2 := hD.2
  split at h
  · omega
  · rename_i g1
    split at h
    · omega
    · rename_i g2
      split at h
      · omega
      · rename_i g3
        have a1 := an_false.mp (Bool.eq_false_iff.mpr g1) k hk
        have a2 := an_false.mp (Bool.eq_false_iff.mpr g2) k hk
        have a3 := an_false.mp (Bool.eq_false_iff.mpr g3) k hk
        simp only [Bool.not_eq_false', decide_eq_false_iff_not] at a1 a2 a3
        have := inB_iff.mp a1
        exact ⟨⟨a1, a2, by omega⟩, by omega⟩
section EFF
variable {G : tG} {D M : Nat → Prop} {hs : tHS} {a fl np : Nat} {s : tRow}
theorem c_countEdges {q n : Nat} {sh r x y : Int} (H : GR G D M hs.1 a s np) (C : CH G D hs.1) (P : PL G (fun _ => True) hs.1 q sh r x y) (hF : Fi hs) (h1 : 0 ≤ sh) (h2 : sh ≤ 4) (h3 : 0 ≤ r) (h4 : r ≤ 3) (hI : ∀ k, k < shN sh → (0 ≤ cX sh r x k ∧ cX sh r x k ≤ 7) ∧ 0 ≤ cY sh r y k ∧ cY sh r y k ≤ 7)
    {f : Nat → Int32} {acc : Nat → Int} (hn : hs.1 n = some (true, 0, .inr (128, .inl f))) (hf : ∀ j, j < 128 → f j = iI (acc j)) :
    ∃ f', t_Ev (t_pg G) t_hd Y_X3_countEdges 0 ([some (.ref a), some (.ref q), some (.ref n), none, none, none, none], [], hs) = rV (t_up hs.1 n (true, 0, .inr (128, .inl f')), hs.2) ∧ ∀ j, j < 128 → f' j = iI (ceF sh r x y acc j) := by
  have hN := shN_b (sh := sh)
  have kk : ∀ g : Nat → Int32, Kp tgG hs.1 (t_up hs.1 n (true, 0, .inr (128, .inl g))) := fun g => Kp.up hn rfl
  have self : (t_up hs.1 n (true, 0, .inr (128, .inl f))) = hs.1 := by
    funext z
    unfold t_up
    by_cases c : z = n
    · rw [if_pos c, c, hn]
    · rw [if_neg c]
  rw [b_X3_countEdges_0]
  obtain ⟨⟨f', v4, v5, v6⟩, i1, e⟩ := lp_ik (N := shN sh) (σ := (Nat → Int32) × Option Value × Option Value × Option Value) (I := fun k c => ∀ j, j < 128 → c.1 j = iI (fd (fun k acc => fd (fun o acc => ceS sh r x y k o acc) (shN sh) acc) k acc j)) (F := fun k c => t_Ev (t_pg G) t_hd Y_X3_countEdges 2 ([some (.ref a), some (.ref q), some (.ref n), some (.int (iI (k : Int))), c.2.1, c.2.2.1, c.2.2.2], [], (t_up hs.1 n (true, 0, .inr (128, .inl c.1)), hs.2))) (fun k hk c hc => by
    have hk' : (k : Int) < (shN sh : Int) := by omega
    have pk := hI k hk
    have C0 := (C.kp (kk c.1)).tr
    have P0 := P.kp (kk c.1)
    obtain ⟨⟨f2, w5, w6⟩, i2, e2⟩ := lp_ik (N := shN sh) (σ := (Nat → Int32) × Option Value × Option Value) (I := fun o b => ∀ j, j < 128 → b.1 j = iI (fd (fun o acc => ceS sh r x y k o acc) o (fd (fun k acc => fd (fun o acc => ceS sh r x y k o acc) (shN sh) acc) k acc) j)) (F := fun o b => t_Ev (t_pg G) t_hd Y_X3_countEdges 16 ([some (.ref a), some (.ref q), some (.ref n), some (.int (iI (k : Int))), some (.int (iI (o : Int))), b.2.1, b.2.2], [], (t_up hs.1 n (true, 0, .inr (128, .inl b.1)), hs.2))) (fun o ho b hb => by
      have ho' : (o : Int) < (shN sh : Int) := by omega
      have po := hI o ho
      have H1 := H.kp (kk b.1)
      have C1 := (C.kp (kk b.1)).tr
      have P1 := P.kp (kk b.1)
      have hcnt : (t_up hs.1 n (true, 0, .inr (128, .inl b.1))) n = some (true, 0, .inr (128, .inl b.1)) := t_up_s
      have hpb := mul_b (a := cX sh r x o - cX sh r x k) (b := cY sh r y o - cY sh r y k) (by omega) (by omega) (by omega) (by omega)
      have st := b_X3_countEdges_16 G a q n (iI (k : Int)) (iI (o : Int)) b.2.1 b.2.2 (t_up hs.1 n (true, 0, .inr (128, .inl b.1)), hs.2)
      simp (maxSteps := 2000000) (disch := omega) only [Option.bind_some, va_rf_some, va_rf_none, bI_rI, bI_rB, bV_rV, bB_0, bB_1, iI_add, iI_sub, iI_mul, iI_neg, rI_of, rV_of, Int.reduceToNat, Int.neg_neg, iI_lt, iI_le, iI_inj, Int.toNat_natCast, Int.lt_irrefl, if_true, if_false, reduceIte, P1.r0, C1.k h1 h2, c_cells (hs := (t_up hs.1 n (true, 0, .inr (128, .inl b.1)), hs.2)) C1 h1 h2, ho', P1.k, c_columnOf (hs := (t_up hs.1 n (true, 0, .inr (128, .inl b.1)), hs.2)) C1 P1 h1 h2 (show (0:Int) ≤ k by omega) hk' h3 h4, c_rowOf (hs := (t_up hs.1 n (true, 0, .inr (128, .inl b.1)), hs.2)) C1 P1 h1 h2 (show (0:Int) ≤ k by omega) hk' h3 h4, c_columnOf (hs := (t_up hs.1 n (true, 0, .inr (128, .inl b.1)), hs.2)) C1 P1 h1 h2 (show (0:Int) ≤ o by omega) ho' h3 h4, c_rowOf (hs := (t_up hs.1 n (true, 0, .inr (128, .inl b.1)), hs.2)) C1 P1 h1 h2 (show (0:Int) ≤ o by omega) ho' h3 h4, H1.k, c_edge (hs := (t_up hs.1 n (true, 0, .inr (128, .inl b.1)), hs.2)) H1] at st
      by_cases c : (cX sh r x o - cX sh r x k) + (cY sh r y o - cY sh r y k) = 1 ∧ (cX sh r x o - cX sh r x k) * (cY sh r y o - cY sh r y k) = 0
      · rw [if_pos c.1, if_pos c.2] at st
        obtain ⟨E, hE⟩ : ∃ E : Int, E = (if cX sh r x o - cX sh r x k = 1 then 0 else 64) + (cY sh r y k * 8 + cX sh r x k) := ⟨_, rfl⟩
        have hEb : 0 ≤ E ∧ E < 128 := by rw [hE]; split <;> omega
        have key : t_Ev (t_pg G) t_hd Y_X3_countEdges 16 ([some (.ref a), some (.ref q), some (.ref n), some (.int (iI (k : Int))), some (.int (iI (o : Int))), b.2.1, b.2.2], [], (t_up hs.1 n (true, 0, .inr (128, .inl b.1)), hs.2)) = t_Ev (t_pg G) t_hd Y_X3_countEdges 16 ([some (.ref a), some (.ref q), some (.ref n), some (.int (iI (k : Int))), some (.int (iI ((o : Int) + 1))), some (.int (iI (cX sh r x o - cX sh r x k))), some (.int (iI (cY sh r y o - cY sh r y k)))], [], (t_up hs.1 n (true, 0, .inr (128, .inl (upd b.1 E.toNat (b.1 E.toNat + iI 1)))), hs.2)) := by
          refine st.trans ?_
          by_cases c2 : cX sh r x o - cX sh r x k = 1
          · rw [if_pos c2] at hE ⊢
            rw [show (0:Int) * 64 + (cY sh r y k * 8 + cX sh r x k) = E by omega, ldI_at hcnt (by decide) hEb.1 hEb.2 (by decide)]
            simp only [Option.bind_some]
            rw [stI_at hcnt (by decide) hEb.1 hEb.2 (by decide)]
            simp only [Option.bind_some, t_up_up]
            (try rfl)
          · rw [if_neg c2] at hE ⊢
            rw [show (1:Int) * 64 + (cY sh r y k * 8 + cX sh r x k) = E by omega, ldI_at hcnt (by decide) hEb.1 hEb.2 (by decide)]
            simp only [Option.bind_some]
            rw [stI_at hcnt (by decide) hEb.1 hEb.2 (by decide)]
            simp only [Option.bind_some, t_up_up]
            (try rfl)
        refine ⟨(upd b.1 E.toNat (b.1 E.toNat + iI 1), _, _), fun j hj => ?_, key⟩
        have hce : ∀ acc' : Nat → Int, ceS sh r x y k o acc' = fU acc' E.toNat (acc' E.toNat + 1) := fun acc' => by unfold ceS; rw [if_pos c, ← hE]
        rw [fd, hce]
        try dsimp only
        by_cases cj : j = E.toNat
        · rw [cj, upd_s, fU_s, hb _ (by omega), iI_add]
        · rw [upd_n cj, fU_n cj]
          exact hb j hj
      · refine ⟨(b.1, some (.int (iI (cX sh r x o - cX sh r x k))), some (.int (iI (cY sh r y o - cY sh r y k)))), fun j hj => ?_, ?_⟩
        · have hce : ∀ acc' : Nat → Int, ceS sh r x y k o acc' = acc' := fun acc' => if_neg c
          rw [fd, hce]
          exact hb j hj
        · refine st.trans ?_
          by_cases c1 : (cX sh r x o - cX sh r x k) + (cY sh r y o - cY sh r y k) = 1
          · rw [if_pos c1, if_neg (fun z => c ⟨c1, z⟩)]
            rfl
          · rw [if_neg c1]
            rfl) (c.1, c.2.2.1, c.2.2.2) hc
    have C2 := (C.kp (kk f2)).tr
    have P2 := P.kp (kk f2)
    refine ⟨(f2, some (.int (iI (shN sh))), w5, w6), i2, ?_⟩
    try dsimp only
    rw [b_X3_countEdges_2]
    simp (disch := omega) only [Option.bind_some, va_rf_some, va_rf_none, bI_rI, bI_rB, bV_rV, bB_0, bB_1, iI_add, iI_sub, iI_mul, iI_neg, rI_of, rV_of, Int.reduceToNat, Int.neg_neg, iI_lt, iI_le, iI_inj, Int.toNat_natCast, Int.lt_irrefl, if_true, if_false, reduceIte, P0.r0, C0.k h1 h2, c_cells (hs := (t_up hs.1 n (true, 0, .inr (128, .inl c.1)), hs.2)) C0 h1 h2, hk']
    refine Eq.trans e2 ?_
    try dsimp only
    rw [b_X3_countEdges_16]
    simp (disch := omega) only [Option.bind_some, va_rf_some, va_rf_none, bI_rI, bI_rB, bV_rV, bB_0, bB_1, iI_add, iI_sub, iI_mul, iI_neg, rI_of, rV_of, Int.reduceToNat, Int.neg_neg, iI_lt, iI_le, iI_inj, Int.toNat_natCast, Int.lt_irrefl, if_true, if_false, reduceIte, P2.r0, C2.k h1 h2, c_cells (hs := (t_up hs.1 n (true, 0, .inr (128, .inl f2)), hs.2)) C2 h1 h2]
    (try rfl)) (f, none, none, none) hf
  have C2 := (C.kp (kk f')).tr
  have P2 := P.kp (kk f')
  refine ⟨f', Eq.trans (Eq.trans (by rw [self]; rfl) e) ?_, i1⟩
  try dsimp only
  rw [b_X3_countEdges_2]
  simp (disch := omega) only [Option.bind_some, va_rf_some, va_rf_none, bI_rI, bI_rB, bV_rV, bB_0, bB_1, iI_add, iI_sub, iI_mul, iI_neg, rI_of, rV_of, Int.reduceToNat, Int.neg_neg, iI_lt, iI_le, iI_inj, Int.toNat_natCast, Int.lt_irrefl, if_true, if_false, reduceIte, P2.r0, C2.k h1 h2, c_cells (hs := (t_up hs.1 n (true, 0, .inr (128, .inl f')), hs.2)) C2 h1 h2]
/-- the best effect by the counts of the edges -/
def seI (s : tRow) (cnt : Nat → Int) (d y x : Int) (b : Int) : Int := if isEd s x y d = true ∧ mayF s x y d = true then max b (cnt (d * 64 + (y * 8 + x)).toNat) else b
def seC (s : tRow) (cnt : Nat → Int) : Int := fd (fun d b => fd (fun y b => fd (fun x b => seI s cnt d y x b) (s 0).toNat b) (s 1).toNat b) 2 0
def ctE (s : tRow) : Nat → Int := vF s (fun sh => decide (0 < ofS s (1 - s 2) (2 + sh))) ceF (fun _ => 0)
theorem fd_ge {α : Type} {f : Nat → α → α} {P : α → Prop} {n : Nat} (h : ∀ k, k < n → ∀ a, P a → P (f k a)) : ∀ {a : α}, P a → P (fd f n a) := by
  induction n with
  | zero => exact fun h => h
  | succ n ih => exact fun ha => h n (Nat.lt_succ_self n) _ (ih (fun k hk => h k (Nat.lt_succ_of_lt hk)) ha)
theorem vF_P {σ : Type} {s : tRow} {φ : Int → Bool} {f : Int → Int → Int → Int → σ → σ} {P : σ → Prop} (h : ∀ sh r x y st, P st → P (f sh r x y st)) {st : σ} (h0 : P st) : P (vF s φ f st) := by
  refine fd_ge (fun sh _ st hst => ?_) h0
  by_cases c : φ sh = true
  · simp only [if_pos c]
    exact fd_ge (fun r _ st hst => fd_ge (fun y _ st hst => fd_ge (fun x _ st hst => by
      by_cases c : mf s sh r x y = 0
      · simp only [if_pos c]; exact h _ _ _ _ _ hst
      · simp only [if_neg c]; exact hst) hst) hst) hst
  · simp only [if_neg c]; exact hst
/-- bounds that grow by a step at most -/
theorem vF_B {σ : Type} {s : tRow} (hD : Dm s) {φ : Int → Bool} {f : Int → Int → Int → Int → σ → σ} {P : Nat → σ → Prop} (hm : ∀ n st, P n st → P (n + 1) st) (h : ∀ sh r x y n st, P n st → P (n + 1) (f sh r x y st)) {st : σ} (h0 : P 0 st) : P 1280 (vF s φ f st) := by
  have mono : ∀ {n k st}, n ≤ k → P n st → P k st := fun {n k st} hnk hp => by
    induction hnk with
    | refl => exact hp
    | step _ ih => exact hm _ _ ih
  have key := vF_P (s := s) (φ := φ) (f := fun sh r x y (b : σ × Nat) => (f sh r x y b.1, b.2 + 1)) (P := fun b => P b.2 b.1) (fun sh r x y b hb => h sh r x y _ _ hb) (st := (st, 0)) h0
  have hle := vF_le hD (φ := φ) (f := fun sh r x y (b : σ × Nat) => (f sh r x y b.1, b.2 + 1)) (μ := fun b => b.2) (fun _ _ _ _ _ => Nat.le_refl _) (st := (st, 0))
  rw [vF_map (s := s) (f := fun sh r x y (b : σ × Nat) => (f sh r x y b.1, b.2 + 1)) (g := f) (π := fun b => b.1) (fun _ _ _ _ _ => rfl)] at key
  exact mono (by dsimp only at hle; omega) key
theorem ceF_b {sh r x y : Int} {acc : Nat → Int} {n : Int} (h : ∀ j, 0 ≤ acc j ∧ acc j ≤ n) : ∀ j, 0 ≤ ceF sh r x y acc j ∧ ceF sh r x y acc j ≤ n + 16 := by
  have hN := shN_b (sh := sh)
  have gen : ∀ (F : Nat → (Nat → Int) → Nat → Int) (c : Int), 0 ≤ c → (∀ k acc n, (∀ j, 0 ≤ acc j ∧ acc j ≤ n) → ∀ j, 0 ≤ F k acc j ∧ F k acc j ≤ n + c) → ∀ (N : Nat) (acc : Nat → Int) (n : Int), (∀ j, 0 ≤ acc j ∧ acc j ≤ n) → ∀ j, 0 ≤ fd F N acc j ∧ fd F N acc j ≤ n + N * c := fun F c hc hF N => by
    induction N with
    | zero => intro acc n h j; have := h j; simp only [fd, Int.natCast_zero, Int.zero_mul, Int.add_zero]; exact this
    | succ N ih =>
      intro acc n h j
      have := hF N _ _ (ih acc n h) j
      rw [fd, Int.natCast_add, Int.add_mul]
      omega
  have e1 : ∀ k o acc n, (∀ j, 0 ≤ acc j ∧ acc j ≤ n) → ∀ j, 0 ≤ ceS sh r x y k o acc j ∧ ceS sh r x y k o acc j ≤ n + 1 := fun k o acc n h j => by
    unfold ceS
    by_cases c : (cX sh r x o - cX sh r x k) + (cY sh r y o - cY sh r y k) = 1 ∧ (cX sh r x o - cX sh r x k) * (cY sh r y o - cY sh r y k) = 0
    · rw [if_pos c]
      generalize ((if cX sh r x o - cX sh r x k = 1 then (0:Int) else 64) + (cY sh r y k * 8 + cX sh r x k)).toNat = E
      by_cases cj : j = E
      · rw [cj, fU_s]; have := h E; omega
      · rw [fU_n cj]; have := h j; omega
    · rw [if_neg c]; have := h j; omega
  have e2 := gen (fun k acc => fd (fun o acc => ceS sh r x y k o acc) (shN sh) acc) 4 (by decide) (fun k acc n h j => by
    have := gen (fun o acc => ceS sh r x y k o acc) 1 (by decide) (fun o acc n h => e1 k o acc n h) (shN sh) acc n h j
    omega) (shN sh) acc n h
  intro j
  have := e2 j
  unfold ceF
  omega
theorem ctE_b {s : tRow} (hD : Dm s) (j : Nat) : 0 ≤ ctE s j ∧ ctE s j ≤ 20480 := by
  have := vF_B hD (φ := fun sh => decide (0 < ofS s (1 - s 2) (2 + sh))) (f := ceF) (P := fun n (acc : Nat → Int) => ∀ j, 0 ≤ acc j ∧ acc j ≤ n * 16) (fun n st h j => by have := h j; omega) (fun sh r x y n st h j => by
    have := ceF_b (sh := sh) (r := r) (x := x) (y := y) h j
    omega) (st := fun _ => 0) (fun j => by (try dsimp only); omega) j
  unfold ctE
  omega
end EFF
