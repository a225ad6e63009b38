/-! ===== regions: the scan ===== -/
theorem Lf.em {s : tRow} {L : Nat → Nat} (hD : Dm s) (lf : Lf s L) {q : Nat} (hq : q < 64) : emQ s (L q) = true ↔ emQ s q = true := lf.1.2 (fun t => emQ s t = true) (fun a b j => by
  have h := (Jn_b hD j).2
  exact ⟨fun _ => h.2, fun _ => h.1⟩) q hq
theorem Lf.ll {s : tRow} {L : Nat → Nat} (lf : Lf s L) {q : Nat} (hq : q < 64) : L (L q) = L q := (lf.1.2 (fun t => L t = L q) (fun a b j => by rw [lf.2 a b j]) q hq).mpr rfl
/-- how many regions begin before -/
def rk (s : tRow) (L : Nat → Nat) (p : Nat) : Int := sm (fun t => bB (emQ s t && decide (L t = t))) p
theorem rk_b {s : tRow} {L : Nat → Nat} {p : Nat} : 0 ≤ rk s L p ∧ rk s L p ≤ p := by
  refine ⟨sm_ge fun _ _ => bB_ge, ?_⟩
  have : rk s L p ≤ (p : Int) * 1 := sm_le fun _ _ => bB_le
  omega
theorem rk_s {s : tRow} {L : Nat → Nat} {p : Nat} (he : emQ s p = true) (hL : L p = p) : rk s L (p + 1) = rk s L p + 1 := by
  show sm _ (p + 1) = _
  rw [sm, he, decide_eq_true hL]
  rfl
theorem rk_n {s : tRow} {L : Nat → Nat} {p : Nat} (h : ¬ (emQ s p = true ∧ L p = p)) : rk s L (p + 1) = rk s L p := by
  have e : (emQ s p && decide (L p = p)) = false := by
    cases c : emQ s p with
    | false => rfl
    | true => rw [Bool.true_and]; exact decide_eq_false fun q => h ⟨c, q⟩
  show sm _ (p + 1) = _
  rw [sm, e, bB_f, Int.add_zero]
  rfl
theorem rk_le {s : tRow} {L : Nat → Nat} {p q : Nat} (h : p ≤ q) : rk s L p ≤ rk s L q := by
  induction h with
  | refl => exact Int.le_refl _
  | @step k _ ih =>
    refine Int.le_trans ih ?_
    show _ ≤ sm _ (_ + 1)
    rw [sm]
    have := bB_ge (b := emQ s k && decide (L k = k))
    unfold rk
    omega
theorem rk_lt {s : tRow} {L : Nat → Nat} {p q : Nat} (h : p < q) (he : emQ s p = true) (hL : L p = p) : rk s L p < rk s L q := by
  have := rk_le (s := s) (L := L) (p := p + 1) (q := q) h
  rw [rk_s he hL] at this
  omega
/-- what the scan has done before P -/
abbrev SI (s : tRow) (L : Nat → Nat) (P : Nat) (R S : Nat → Int) (c : Int) : Prop := (c = rk s L P) ∧ (∀ q, q < 64 → R q = if emQ s q = true ∧ L q < P then rk s L (L q) else -1) ∧ (∀ q, q < 64 → emQ s q = true → L q = q → q < P → S (rk s L q).toNat = szF L q) ∧ (∀ j : Nat, j < 64 → c ≤ j → S j = 0)
theorem SI.i1 {s : tRow} {L : Nat → Nat} {P : Nat} {R S : Nat → Int} {c : Int} (zz : SI s L P R S c) : c = rk s L P := zz.1
theorem SI.i2 {s : tRow} {L : Nat → Nat} {P : Nat} {R S : Nat → Int} {c : Int} (zz : SI s L P R S c) : ∀ q, q < 64 → R q = if emQ s q = true ∧ L q < P then rk s L (L q) else -1 := zz.2.1
theorem SI.i3 {s : tRow} {L : Nat → Nat} {P : Nat} {R S : Nat → Int} {c : Int} (zz : SI s L P R S c) : ∀ q, q < 64 → emQ s q = true → L q = q → q < P → S (rk s L q).toNat = szF L q := zz.2.2.1
theorem SI.i4 {s : tRow} {L : Nat → Nat} {P : Nat} {R S : Nat → Int} {c : Int} (zz : SI s L P R S c) : ∀ j : Nat, j < 64 → c ≤ j → S j = 0 := zz.2.2.2
theorem SI.rb {s : tRow} {L : Nat → Nat} {P : Nat} {R S : Nat → Int} {c : Int} (lf : Lf s L) (I : SI s L P R S c) : ∀ q, q < 64 → -1 ≤ R q ∧ R q ≤ 64 := fun q hq => by
  have := rk_b (s := s) (L := L) (p := L q)
  have := lf.1.1 q hq
  rw [I.i2 q hq]
  split <;> omega
/-- nothing begins here -/
theorem SI.no {s : tRow} {L : Nat → Nat} {P : Nat} {R S : Nat → Int} {c : Int} (hD : Dm s) (lf : Lf s L) (I : SI s L P R S c) (h : ¬ (emQ s P = true ∧ L P = P)) : SI s L (P + 1) R S c := by
  refine ⟨by rw [I.i1, rk_n h], fun q hq => ?_, fun q hq he hL hp => ?_, I.i4⟩
  · rw [I.i2 q hq]
    by_cases e : emQ s q = true
    · have ne : L q ≠ P := fun e' => h ⟨by rw [← e']; exact (lf.em hD hq).mpr e, by rw [← e']; exact lf.ll hq⟩
      by_cases l : L q < P
      · rw [if_pos ⟨e, l⟩, if_pos ⟨e, by omega⟩]
      · rw [if_neg fun z => l z.2, if_neg fun z => by have := z.2; omega]
    · rw [if_neg fun z => e z.1, if_neg fun z => e z.1]
  · have ne : q ≠ P := fun e' => by subst e'; exact h ⟨he, hL⟩
    exact I.i3 q hq he hL (by omega)
theorem SI.yes {s : tRow} {L : Nat → Nat} {P : Nat} {R R' S : Nat → Int} {c : Int} (hD : Dm s) (lf : Lf s L) (I : SI s L P R S c) (hP : P < 64) (he : emQ s P = true) (hL : L P = P) (hR : ∀ q, q < 64 → R' q = if L q = P then c else R q) : SI s L (P + 1) R' (fU S c.toNat (szF L P)) (c + 1) := by
  have rb := rk_b (s := s) (L := L) (p := P)
  have i1 := I.i1
  refine ⟨by rw [rk_s he hL, I.i1], fun q hq => ?_, fun q hq he' hL' hp => ?_, fun j hj h => ?_⟩
  · rw [hR q hq]
    by_cases e : L q = P
    · have eq : emQ s q = true := (lf.em hD hq).mp (by rw [e]; exact he)
      rw [if_pos e, if_pos ⟨eq, by omega⟩, e]
      exact i1
    · rw [if_neg e, I.i2 q hq]
      by_cases l : emQ s q = true ∧ L q < P
      · rw [if_pos l, if_pos ⟨l.1, by omega⟩]
      · rw [if_neg l, if_neg fun z => l ⟨z.1, by have := z.2; omega⟩]
  · by_cases e : q = P
    · subst e
      rw [i1, fU_s]
    · have lt := rk_lt (s := s) (L := L) (p := q) (q := P) (by omega) he' hL'
      have qb := rk_b (s := s) (L := L) (p := q)
      rw [fU_n (by omega)]
      exact I.i3 q hq he' hL' (by omega)
  · rw [fU_n (by omega)]
    exact I.i4 j hj (by omega)
theorem SI.to {s : tRow} {L : Nat → Nat} {R S : Nat → Int} {c : Int} (hD : Dm s) (lf : Lf s L) {P P' : Nat} (h : P ≤ P') (I : SI s L P R S c) (hn : ∀ q, P ≤ q → q < P' → emQ s q = false) : SI s L P' R S c := by
  induction h with
  | refl => exact I
  | step h ih => exact (ih fun q h1 h2 => hn q h1 (Nat.lt_succ_of_lt h2)).no hD lf fun z => by rw [hn _ h (Nat.lt_succ_self _)] at z; exact absurd z.1 (by decide)
section CSC
variable {G : tG} {D M : Nat → Prop} {n a : Nat} {R S Q : Nat → Int} {c : Int} {g : tAH} {z : Nat × Nat} {s : tRow} {np : Nat} {L : Nat → Nat}
theorem c_in66 (hg : ∀ q, n ≤ q → g q = none) (H : GR G D M g a s np) (hD : Dm s) (hB : RB s) (lf : Lf s L) {y : Nat} (hy : (y : Int) < s 1) (I : SI s L (8 * y) R S c) : ∃ R' S' Q' c', t_Ev (t_pg G) t_hd Y_X11_init 66 ([some (.ref n), some (.ref a), some (.int (iI y)), some (.int (iI 0))], [], (hR n a R S Q c g, z)) = t_Ev (t_pg G) t_hd Y_X11_init 56 ([some (.ref n), some (.ref a), some (.int (iI ((y + 1 : Nat) : Int))), some (.int (iI (s 0)))], [], (hR n a R' S' Q' c' g, z)) ∧ SI s L (8 * (y + 1)) R' S' c' := by
  have d0 := hD.1
  have d1 := hD.2
  have t0 := tn_of d0.1
  obtain ⟨⟨R', S', Q', c'⟩, I', e⟩ := lp_ik (N := (s 0).toNat) (σ := (Nat → Int) × (Nat → Int) × (Nat → Int) × Int) (I := fun k c => SI s L (8 * y + k) c.1 c.2.1 c.2.2.2) (F := fun k c => t_Ev (t_pg G) t_hd Y_X11_init 66 ([some (.ref n), some (.ref a), some (.int (iI y)), some (.int (iI (k : Int)))], [], (hR n a c.1 c.2.1 c.2.2.1 c.2.2.2 g, z))) (fun k hk c I => by
    obtain ⟨R, S, Q, c⟩ := c
    dsimp only at I ⊢
    have H' : GR G D M (hR n a R S Q c g) a s np := H.hr hg
    have rb := I.rb lf
    have p64 : 8 * y + k < 64 := by omega
    have ep : emQ s (8 * y + k) = emB s k y := by
      have := emQ_at (s := s) (x := k) (y := y) (by omega) (by omega)
      rw [← this]
      exact congrArg _ (by omega)
    have ptn : (8 * (y : Int) + k).toNat = 8 * y + k := by omega
    have kb := rk_b (s := s) (L := L) (p := 8 * y + k)
    have i1 := I.i1
    rw [b_X11_init_66]
    simp (disch := omega) only [Option.bind_some, va_rf_some, va_rf_none, bI_rI, bI_rB, bV_rV, bB_0, bB_1, iI_add, iI_sub, iI_mul, iI_neg, rI_of, rV_of, Int.reduceToNat, Int.neg_neg, H'.i1, iI_lt, rK]
    rw [if_pos (show (k : Int) < s 0 by omega), c_isFree hg H hD hB rb (by omega) (by omega), bI_rB]
    simp only [bB_0]
    rw [ptn]
    cases he : emB s k y with
    | false =>
      have I1 := SI.no hD lf I fun z => by rw [ep, he] at z; exact absurd z.1 (by decide)
      refine ⟨(R, S, Q, c), I1, ?_⟩
      rw [Bool.false_and, if_pos rfl]
      rfl
    | true =>
      rw [he] at ep
      by_cases hr : R (8 * y + k) = -1
      · have ge : ¬ L (8 * y + k) < 8 * y + k := fun h => by
          have := I.i2 _ p64
          rw [if_pos ⟨ep, h⟩] at this
          have := rk_b (s := s) (L := L) (p := L (8 * y + k))
          omega
        have hL : L (8 * y + k) = 8 * y + k := by have := lf.1.1 _ p64; omega
        obtain ⟨R', Q', e, r'⟩ := c_fill (z := z) (Q := Q) (p := 8 * y + k) (x := k) (y := y) hg H hD hB (c := c) (by omega) rb lf (fun q hq _ h => by rw [I.i2 q hq, if_neg fun z => by have := z.2; omega]) (fun q hq => by
          rw [I.i2 q hq]
          by_cases l : emQ s q = true ∧ L q < 8 * y + k
          · rw [if_pos l]
            have := rk_lt (s := s) (L := L) l.2 ((lf.em hD hq).mpr l.1) (lf.ll hq)
            omega
          · rw [if_neg l]; omega) (I.i4 _ (by omega) (by omega)) (by omega) (by omega) ptn.symm he hL
        refine ⟨(R', fU S c.toNat (szF L (8 * y + k)), Q', c + 1), I.yes hD lf p64 ep hL r', ?_⟩
        rw [decide_eq_true hr, if_neg (by decide), rK, Option.bind_some, e, bV_rV]
        simp only [Option.bind_some, va_rf_some, va_rf_none, bI_rI, bI_rB, bV_rV, bB_0, bB_1, iI_add, iI_sub, iI_mul, iI_neg, rI_of, rV_of, Int.reduceToNat, Int.neg_neg, rg4, rgp4]
        (try rfl)
      · have I1 := SI.no hD lf I fun z => by
          have := I.i2 _ p64
          rw [if_neg fun w => by have := w.2; omega] at this
          exact hr this
        refine ⟨(R, S, Q, c), I1, ?_⟩
        · rw [decide_eq_false hr, Bool.and_false, if_pos rfl]
          rfl) (R, S, Q, c) (by dsimp only; exact I)
  dsimp only at I' e
  refine ⟨R', S', Q', c', Eq.trans e ?_, I'.to hD lf (by omega) fun q h1 h2 => Bool.eq_false_iff.mpr fun h => by have := emB_b hD (show emB s ((q % 8 : Nat) : Int) ((q / 8 : Nat) : Int) = true from h); omega⟩
  have H' : GR G D M (hR n a R' S' Q' c' g) a s np := H.hr hg
  rw [b_X11_init_66]
  simp (disch := omega) only [Option.bind_some, va_rf_some, va_rf_none, bI_rI, bI_rB, bV_rV, bB_0, bB_1, iI_add, iI_sub, iI_mul, iI_neg, rI_of, rV_of, Int.reduceToNat, Int.neg_neg, H'.i1, iI_lt]
  rw [if_neg (by omega), t0]
  rfl
theorem c_in56 (hg : ∀ q, n ≤ q → g q = none) (H : GR G D M g a s np) (hD : Dm s) (hB : RB s) (lf : Lf s L) (I : SI s L 0 R S c) : ∃ R' S' Q' c', t_Ev (t_pg G) t_hd Y_X11_init 56 ([some (.ref n), some (.ref a), some (.int (iI 0)), none], [], (hR n a R S Q c g, z)) = rV (hR n a R' S' Q' c' g, z) ∧ SI s L 64 R' S' c' := by
  have d0 := hD.1
  have d1 := hD.2
  have t1 := tn_of d1.1
  obtain ⟨⟨R', S', Q', c', u⟩, I', e⟩ := lp_ik (N := (s 1).toNat) (σ := (Nat → Int) × (Nat → Int) × (Nat → Int) × Int × Option Value) (I := fun k c => SI s L (8 * k) c.1 c.2.1 c.2.2.2.1) (F := fun k c => t_Ev (t_pg G) t_hd Y_X11_init 56 ([some (.ref n), some (.ref a), some (.int (iI (k : Int))), c.2.2.2.2], [], (hR n a c.1 c.2.1 c.2.2.1 c.2.2.2.1 g, z))) (fun k hk c I => by
    obtain ⟨R, S, Q, c, u⟩ := c
    dsimp only at I ⊢
    have H' : GR G D M (hR n a R S Q c g) a s np := H.hr hg
    obtain ⟨R', S', Q', c', e, I'⟩ := c_in66 (z := z) (Q := Q) hg H hD hB lf (y := k) (by omega) I
    refine ⟨(R', S', Q', c', some (.int (iI (s 0)))), I', ?_⟩
    rw [b_X11_init_56]
    simp (disch := omega) only [Option.bind_some, va_rf_some, va_rf_none, bI_rI, bI_rB, bV_rV, bB_0, bB_1, iI_add, iI_sub, iI_mul, iI_neg, rI_of, rV_of, Int.reduceToNat, Int.neg_neg, H'.i2, iI_lt]
    rw [if_pos (show (k : Int) < s 1 by omega)]
    exact e) (R, S, Q, c, none) (by dsimp only; exact I)
  dsimp only at I' e
  refine ⟨R', S', Q', c', Eq.trans e ?_, I'.to hD lf (by omega) fun q h1 h2 => Bool.eq_false_iff.mpr fun h => by have := emB_b hD (show emB s ((q % 8 : Nat) : Int) ((q / 8 : Nat) : Int) = true from h); omega⟩
  have H' : GR G D M (hR n a R' S' Q' c' g) a s np := H.hr hg
  rw [b_X11_init_56]
  simp (disch := omega) only [Option.bind_some, va_rf_some, va_rf_none, bI_rI, bI_rB, bV_rV, bB_0, bB_1, iI_add, iI_sub, iI_mul, iI_neg, rI_of, rV_of, Int.reduceToNat, Int.neg_neg, H'.i2, iI_lt]
  rw [if_neg (by omega)]
theorem c_in35 : ∃ R', t_Ev (t_pg G) t_hd Y_X11_init 35 ([some (.ref n), some (.ref a), some (.int (iI 0)), none], [], (hR n a R S Q c g, z)) = t_Ev (t_pg G) t_hd Y_X11_init 56 ([some (.ref n), some (.ref a), some (.int (iI 0)), none], [], (hR n a R' S Q c g, z)) ∧ ∀ q, q < 64 → R' q = -1 := by
  obtain ⟨R', I, e⟩ := lp_ik (N := 64) (σ := Nat → Int) (I := fun k R' => ∀ q, q < k → R' q = -1) (F := fun k R' => t_Ev (t_pg G) t_hd Y_X11_init 35 ([some (.ref n), some (.ref a), some (.int (iI (k : Int))), none], [], (hR n a R' S Q c g, z))) (fun k hk R I => by
    refine ⟨fU R k (-1), fun q hq => ?_, ?_⟩
    · by_cases e : q = k
      · rw [e, fU_s]
      · rw [fU_n e]; exact I q (by omega)
    · rw [b_X11_init_35]
      simp (disch := omega) only [Option.bind_some, va_rf_some, va_rf_none, bI_rI, bI_rB, bV_rV, bB_0, bB_1, iI_add, iI_sub, iI_mul, iI_neg, rI_of, rV_of, Int.reduceToNat, Int.neg_neg, rg1, rs1, iI_lt, Int.toNat_natCast]
      rw [if_pos (by omega)]
      rfl) R (fun q hq => absurd hq (Nat.not_lt_zero q))
  refine ⟨R', Eq.trans e ?_, I⟩
  rw [b_X11_init_35]
  rfl
theorem c_init {hs : tHS} (hF : Fi hs) (H : GR G D M hs.1 a s np) (hD : Dm s) (hB : RB s) (lf : Lf s L) : ∃ R' S' Q' c', t_Ev (t_pg G) t_hd Y_X11_init 0 ([some (.ref hs.2.1), some (.ref a), none, none], [], (t_al hs (true, 7, .inl [.null, .null, .null, .null, .int (iI 0)]) 5)) = rV (hR hs.2.1 a R' S' Q' c' hs.1, hs.2.1 + 4, hs.2.2 + 197) ∧ SI s L 64 R' S' c' := by
  obtain ⟨R1, e1, r1⟩ := c_in35 (G := G) (n := hs.2.1) (a := a) (R := fun _ => 0) (S := fun _ => 0) (Q := fun _ => 0) (c := 0) (g := hs.1) (z := (hs.2.1 + 4, hs.2.2 + 197))
  obtain ⟨R', S', Q', c', e2, I⟩ := c_in56 (z := (hs.2.1 + 4, hs.2.2 + 197)) (Q := fun _ => 0) hF H hD hB lf (R := R1) (S := fun _ => 0) (c := 0) ⟨rfl, fun q hq => by rw [r1 q hq, if_neg fun z => Nat.not_lt_zero _ z.2], fun q _ _ _ h => absurd h (Nat.not_lt_zero q), fun _ _ _ => rfl⟩
  refine ⟨R', S', Q', c', ?_, I⟩
  refine Eq.trans ?_ (e1.trans e2)
  have last : ∀ (h : tAH) (z : Nat × Nat), h = hR hs.2.1 a (fun _ => 0) (fun _ => 0) (fun _ => 0) 0 hs.1 → z = (hs.2.1 + 4, hs.2.2 + 197) → t_Ev (t_pg G) t_hd Y_X11_init 35 ([some (.ref hs.2.1), some (.ref a), some (.int (iI 0)), none], [], (h, z)) = t_Ev (t_pg G) t_hd Y_X11_init 35 ([some (.ref hs.2.1), some (.ref a), some (.int (iI 0)), none], [], (hR hs.2.1 a (fun _ => 0) (fun _ => 0) (fun _ => 0) 0 hs.1, (hs.2.1 + 4, hs.2.2 + 197))) := by
    rintro h z rfl rfl
    rfl
  obtain ⟨h0, n0, z0⟩ := hs
  dsimp only at last ⊢
  have n1 : n0 ≠ n0 + 1 := by omega
  have n2 : n0 ≠ n0 + 1 + 1 := by omega
  have n3 : n0 ≠ n0 + 1 + 1 + 1 := by omega
  rw [b_X11_init_0]
  simp only [t_al]
  rw [pf_at ((t_up_n n1).trans t_up_s) (Nat.le_of_ble_eq_true rfl), Option.bind_some, pf_at ((t_up_n n2).trans t_up_s) (Nat.le_of_ble_eq_true rfl), Option.bind_some, pf_at ((t_up_n n3).trans t_up_s) (Nat.le_of_ble_eq_true rfl), Option.bind_some, pf_at t_up_s (Nat.le_of_ble_eq_true rfl), Option.bind_some]
  refine last _ _ (funext fun q => ?_) rfl
  unfold t_up hR
  by_cases c0 : q = n0
  · simp [c0, List.set]
  · by_cases c1 : q = n0 + 1
    · subst c1; simp; rfl
    · by_cases c2 : q = n0 + 2
      · subst c2; simp; rfl
      · by_cases c3 : q = n0 + 3
        · subst c3; simp; rfl
        · simp [c0, c1, c2, c3]
end CSC
