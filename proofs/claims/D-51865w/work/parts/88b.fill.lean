/-! ===== regions: one filled ===== -/
abbrev FS (s : tRow) (L : Nat → Nat) (p : Nat) (c : Int) (R0 S0 R S Q : Nat → Int) (nn : Nat) : Prop := (∀ q : Nat, q < 64 → (R q = c ↔ ∃ i, i < nn ∧ Q i = q)) ∧ (∀ q, q < 64 → R q ≠ c → R q = R0 q) ∧ (∀ q, q < 64 → R q = c → emQ s q = true ∧ L q = p) ∧ ((nn : Int) = sm (fun q => bB (decide (R q = c))) 64) ∧ (S = fU S0 c.toNat nn) ∧ (∀ i, i < nn → ∃ q : Nat, q < 64 ∧ Q i = q)
theorem FS.f1 {s : tRow} {L : Nat → Nat} {p : Nat} {c : Int} {R0 S0 R S Q : Nat → Int} {nn : Nat} (zz : FS s L p c R0 S0 R S Q nn) : ∀ q : Nat, q < 64 → (R q = c ↔ ∃ i, i < nn ∧ Q i = q) := zz.1
theorem FS.f2 {s : tRow} {L : Nat → Nat} {p : Nat} {c : Int} {R0 S0 R S Q : Nat → Int} {nn : Nat} (zz : FS s L p c R0 S0 R S Q nn) : ∀ q, q < 64 → R q ≠ c → R q = R0 q := zz.2.1
theorem FS.f3 {s : tRow} {L : Nat → Nat} {p : Nat} {c : Int} {R0 S0 R S Q : Nat → Int} {nn : Nat} (zz : FS s L p c R0 S0 R S Q nn) : ∀ q, q < 64 → R q = c → emQ s q = true ∧ L q = p := zz.2.2.1
theorem FS.f4 {s : tRow} {L : Nat → Nat} {p : Nat} {c : Int} {R0 S0 R S Q : Nat → Int} {nn : Nat} (zz : FS s L p c R0 S0 R S Q nn) : (nn : Int) = sm (fun q => bB (decide (R q = c))) 64 := zz.2.2.2.1
theorem FS.f5 {s : tRow} {L : Nat → Nat} {p : Nat} {c : Int} {R0 S0 R S Q : Nat → Int} {nn : Nat} (zz : FS s L p c R0 S0 R S Q nn) : S = fU S0 c.toNat nn := zz.2.2.2.2.1
theorem FS.f7 {s : tRow} {L : Nat → Nat} {p : Nat} {c : Int} {R0 S0 R S Q : Nat → Int} {nn : Nat} (zz : FS s L p c R0 S0 R S Q nn) : ∀ i, i < nn → ∃ q : Nat, q < 64 ∧ Q i = q := zz.2.2.2.2.2
/-- what is entered stays -/
def EXq (c : Int) (R Q : Nat → Int) (nn : Nat) (R' Q' : Nat → Int) (nn' : Nat) : Prop := nn ≤ nn' ∧ (∀ i, i < nn → Q' i = Q i) ∧ ∀ q, q < 64 → R q = c → R' q = c
theorem EXq.refl {c : Int} {R Q : Nat → Int} {nn : Nat} : EXq c R Q nn R Q nn := ⟨Nat.le_refl _, fun _ _ => rfl, fun _ _ h => h⟩
theorem EXq.trans {c : Int} {R Q R1 Q1 R2 Q2 : Nat → Int} {nn n1 n2 : Nat} (h : EXq c R Q nn R1 Q1 n1) (h' : EXq c R1 Q1 n1 R2 Q2 n2) : EXq c R Q nn R2 Q2 n2 := ⟨Nat.le_trans h.1 h'.1, fun i hi => (h'.2.1 i (Nat.lt_of_lt_of_le hi h.1)).trans (h.2.1 i hi), fun q hq e => h'.2.2 q hq (h.2.2 q hq e)⟩
theorem FS.lt {s : tRow} {L : Nat → Nat} {p : Nat} {c : Int} {R0 S0 R S Q : Nat → Int} {nn b : Nat} (F : FS s L p c R0 S0 R S Q nn) (hb : b < 64) (hn : R b ≠ c) : nn < 64 := by
  have h := sm_lt (f := fun q => bB (decide (R q = c))) (g := fun _ => 1) (n := 64) (fun _ _ => bB_le) hb (by rw [decide_eq_false hn]; decide)
  rw [sm_const, ← F.f4] at h
  omega
theorem FS.le {s : tRow} {L : Nat → Nat} {p : Nat} {c : Int} {R0 S0 R S Q : Nat → Int} {nn : Nat} (F : FS s L p c R0 S0 R S Q nn) : nn ≤ 64 := by
  have h := sm_mono (f := fun q => bB (decide (R q = c))) (g := fun _ => 1) (n := 64) (fun _ _ => bB_le)
  rw [sm_const, ← F.f4] at h
  omega
theorem FS.enter {s : tRow} {L : Nat → Nat} {p : Nat} {c : Int} {R0 S0 R S Q : Nat → Int} {nn b : Nat} (F : FS s L p c R0 S0 R S Q nn) (hb : b < 64) (hn : R b ≠ c) (he : emQ s b = true) (hL : L b = p) : FS s L p c R0 S0 (fU R b c) (fU S c.toNat ((nn : Int) + 1)) (fU Q nn b) (nn + 1) := by
  refine ⟨fun q hq => ?_, fun q hq h => ?_, fun q hq h => ?_, ?_, ?_, fun i hi => ?_⟩
  · by_cases e : q = b
    · subst e
      exact ⟨fun _ => ⟨nn, Nat.lt_succ_self nn, fU_s⟩, fun _ => fU_s⟩
    · rw [fU_n e, F.f1 q hq]
      constructor
      · rintro ⟨i, h1, h2⟩
        exact ⟨i, Nat.lt_succ_of_lt h1, (fU_n (Nat.ne_of_lt h1)).trans h2⟩
      · rintro ⟨i, h1, h2⟩
        by_cases ei : i = nn
        · subst ei
          rw [fU_s] at h2
          omega
        · rw [fU_n ei] at h2
          exact ⟨i, by omega, h2⟩
  · by_cases e : q = b
    · subst e; exact absurd fU_s h
    · rw [fU_n e] at h ⊢
      exact F.f2 q hq h
  · by_cases e : q = b
    · subst e; exact ⟨he, hL⟩
    · rw [fU_n e] at h
      exact F.f3 q hq h
  · rw [sm_upd (f := fun q => bB (decide (R q = c))) (i := b) hb fun k _ hk => by rw [fU_n hk], ← F.f4, fU_s, decide_eq_true rfl, decide_eq_false hn, bB_t, bB_f]
    omega
  · rw [F.f5, fU_fU]
    rfl
  · by_cases ei : i = nn
    · exact ⟨b, hb, by rw [ei, fU_s]⟩
    · rw [fU_n ei]
      exact F.f7 i (by omega)
theorem stN_r {s : tRow} {x y u : Int} (h : u = x + 1) : stN s x y u y = stB s x y 0 := by
  unfold stN
  rw [if_pos rfl, Int.min_eq_left (by omega), Int.min_self]
theorem stN_d {s : tRow} {x y v : Int} (h : v = y + 1) : stN s x y x v = stB s x y 1 := by
  unfold stN
  rw [if_neg (by omega), Int.min_self, Int.min_eq_left (by omega)]
theorem Jn_b {s : tRow} (hD : Dm s) {a b : Nat} (j : Jn s a b) : (a < 64 ∧ b < 64) ∧ emQ s a = true ∧ emQ s b = true := by
  have d0 := hD.1
  have d1 := hD.2
  obtain ⟨x, y, u, v, ⟨ha, hb⟩, ⟨c1, c2⟩, -, -⟩ := j
  have i1 := emB_b hD c1
  have i2 := emB_b hD c2
  refine ⟨by omega, ?_, ?_⟩
  · rw [ha, emQ_at (by omega) (by omega)]; exact c1
  · rw [hb, emQ_at (by omega) (by omega)]; exact c2
section CFL
variable {G : tG} {D M : Nat → Prop} {n a : Nat} {R S Q R0 S0 : Nat → Int} {c : Int} {g : tAH} {z : Nat × Nat} {s : tRow} {np nn p : Nat} {L : Nat → Nat}
theorem c_step (hg : ∀ q, n ≤ q → g q = none) (H : GR G D M g a s np) (hD : Dm s) (hB : RB s) (hc : 0 ≤ c ∧ c < 64) (hR0 : ∀ q, q < 64 → -1 ≤ R0 q ∧ R0 q ≤ 64) (h0 : ∀ q, q < 64 → emQ s q = true → L q = p → R0 q = -1) (F : FS s L p c R0 S0 R S Q nn) {sx sy d u v : Int} (h1 : -1 ≤ u ∧ u ≤ 8) (h2 : -1 ≤ v ∧ v ≤ 8) (hd : 0 ≤ d ∧ d ≤ 1) (hst : emB s u v = true → (0 ≤ sx ∧ sx ≤ 7) ∧ 0 ≤ sy ∧ sy ≤ 7) (hJ : emB s u v = true → stB s sx sy d = false → L (8 * v + u).toNat = p) : ∃ R' S' Q' nn', t_Ev (t_pg G) t_hd Y_X11_step 0 ([some (.ref n), some (.int (iI sx)), some (.int (iI sy)), some (.int (iI d)), some (.int (iI u)), some (.int (iI v))], [], (hR n a R S Q c g, z)) = rV (hR n a R' S' Q' c g, z) ∧ FS s L p c R0 S0 R' S' Q' nn' ∧ EXq c R Q nn R' Q' nn' ∧ (emB s u v = true → stB s sx sy d = false → R' (8 * v + u).toNat = c) := by
  have H' : GR G D M (hR n a R S Q c g, z).1 a s np := H.hr hg
  have hRb : ∀ q, q < 64 → -1 ≤ R q ∧ R q ≤ 64 := fun q hq => by
    by_cases e : R q = c
    · omega
    · rw [F.f2 q hq e]; exact hR0 q hq
  rw [b_X11_step_0, rK, Option.bind_some, c_isFree hg H hD hB hRb h1 h2, bI_rB]
  simp only [bB_0]
  cases he : emB s u v with
  | false => exact ⟨R, S, Q, nn, rfl, F, EXq.refl, fun h => nomatch h⟩
  | true =>
    have ib := emB_b hD he
    have d0 := hD.1
    have d1 := hD.2
    obtain ⟨b, hb⟩ : ∃ b, b = (8 * v + u).toNat := ⟨_, rfl⟩
    have b64 : b < 64 := by omega
    have eb : emQ s b = true := by rw [hb, emQ_at (by omega) (by omega)]; exact he
    rw [Bool.true_and, ← hb]
    rw [← hb] at hJ
    by_cases hr : R b = -1
    · rw [decide_eq_true hr, if_neg (by decide), rg0, Option.bind_some, va_rf_some, H'.k, Option.bind_some, c_isStrapped H' (hst he).1 (hst he).2 hd.1 hd.2, bI_rB]
      simp only [bB_0]
      cases hs : stB s sx sy d with
      | true => exact ⟨R, S, Q, nn, rfl, F, EXq.refl, fun _ h => nomatch h⟩
      | false =>
        have hn : R b ≠ c := by omega
        have lt := F.lt b64 hn
        have sc : S c.toNat = nn := by rw [F.f5, fU_s]
        refine ⟨fU R b c, fU S c.toNat ((nn : Int) + 1), fU Q nn b, nn + 1, ?_, F.enter b64 hn eb (hJ he hs), ⟨Nat.le_succ _, fun i hi => fU_n (Nat.ne_of_lt hi), fun q hq e => ?_⟩, fun _ _ => fU_s⟩
        · rw [if_pos rfl, rK, Option.bind_some, c_enter hg H (by omega) (by omega) hc (by omega), ← hb, sc, show ((nn : Int)).toNat = nn by omega, show 8 * v + u = (b : Int) by omega]
          rfl
        · by_cases e' : q = b
          · rw [e', fU_s]
          · rw [fU_n e']; exact e
    · rw [decide_eq_false hr, if_pos rfl]
      refine ⟨R, S, Q, nn, rfl, F, EXq.refl, fun _ hs => ?_⟩
      by_cases e : R b = c
      · exact e
      · exact absurd ((F.f2 b b64 e).trans (h0 b b64 eb (hJ he hs))) hr
/-- what lies ahead of the head has its neighbours in -/
def Clq (s : tRow) (c : Int) (R Q : Nat → Int) (hd : Nat) : Prop := ∀ i, i < hd → ∀ t : Nat, t < 64 → Q i = t → ∀ b, Jn s t b ∨ Jn s b t → R b = c
theorem iI_d8 : ∀ q : Nat, q < 64 → iI (q : Int) / iI 8 = iI ((q / 8 : Nat) : Int) := by decide +kernel
theorem c_fl8 (hg : ∀ q, n ≤ q → g q = none) (H : GR G D M g a s np) (hD : Dm s) (hB : RB s) (hc : 0 ≤ c ∧ c < 64) (hR0 : ∀ q, q < 64 → -1 ≤ R0 q ∧ R0 q ≤ 64) (lf : Lf s L) (h0 : ∀ q, q < 64 → emQ s q = true → L q = p → R0 q = -1) {v1 v2 : Option Value} : ∀ (f : Nat) {R S Q : Nat → Int} {nn hd : Nat} (_ : FS s L p c R0 S0 R S Q nn) (_ : Clq s c R Q hd) (_ : hd ≤ nn) (_ : 64 ≤ hd + f) {v4 v5 : Option Value}, ∃ R' S' Q' nn', t_Ev (t_pg G) t_hd Y_X11_fill 8 ([some (.ref n), v1, v2, some (.int (iI (hd : Int))), v4, v5], [], (hR n a R S Q c g, z)) = rV (hR n a R' S' Q' c g, z) ∧ FS s L p c R0 S0 R' S' Q' nn' ∧ EXq c R Q nn R' Q' nn' ∧ Clq s c R' Q' nn' := by
  intro f
  induction f with
  | zero =>
    intro R S Q nn hd F cl le f0 v4 v5
    have l := F.le
    have e : hd = nn := by omega
    subst e
    refine ⟨R, S, Q, hd, ?_, F, EXq.refl, cl⟩
    have sc : S c.toNat = hd := by rw [F.f5, fU_s]
    rw [b_X11_fill_8]
    simp (disch := omega) only [Option.bind_some, va_rf_some, va_rf_none, bI_rI, bI_rB, bV_rV, bB_0, bB_1, iI_add, iI_sub, iI_mul, iI_neg, rI_of, rV_of, Int.reduceToNat, Int.neg_neg, rg2, rg4, rl2, sc, iI_lt]
    rw [if_neg (by omega)]
  | succ f ih =>
    intro R S Q nn hd F cl le f0 v4 v5
    have l := F.le
    have sc : S c.toNat = nn := by rw [F.f5, fU_s]
    rw [b_X11_fill_8]
    simp (disch := omega) only [Option.bind_some, va_rf_some, va_rf_none, bI_rI, bI_rB, bV_rV, bB_0, bB_1, iI_add, iI_sub, iI_mul, iI_neg, rI_of, rV_of, Int.reduceToNat, Int.neg_neg, rg2, rg4, rl2, sc, iI_lt]
    by_cases e : hd = nn
    · subst e
      rw [if_neg (by omega)]
      exact ⟨R, S, Q, hd, rfl, F, EXq.refl, cl⟩
    · obtain ⟨t, t64, hq⟩ := F.f7 hd (by omega)
      obtain ⟨et, lt⟩ := F.f3 t t64 ((F.f1 t t64).mpr ⟨hd, by omega, hq⟩)
      have d8 := iI_d8 t t64
      obtain ⟨x, hx⟩ : ∃ x : Int, x = ((t % 8 : Nat) : Int) := ⟨_, rfl⟩
      obtain ⟨y, hy⟩ : ∃ y : Int, y = ((t / 8 : Nat) : Int) := ⟨_, rfl⟩
      have eB : emB s x y = true := by rw [hx, hy]; exact et
      have ht : t = (8 * y + x).toNat := by omega
      have e8 : iI (t : Int) - iI y * iI 8 = iI x := by rw [iI_mul, iI_sub]; exact congrArg iI (by omega)
      rw [if_pos (show (hd : Int) < nn by omega)]
      simp (disch := omega) only [Option.bind_some, va_rf_some, rg3, rl3, rK, Int.toNat_natCast, hq, d8, ← hy, e8, iI_add, iI_sub]
      have bx : 0 ≤ x ∧ x ≤ 7 := by omega
      have by' : 0 ≤ y ∧ y ≤ 7 := by omega
      have j1 : emB s (x + 1) y = true → stB s x y 0 = false → Jn s t (8 * y + (x + 1)).toNat := fun h1 h2 => ⟨x, y, x + 1, y, ⟨ht, rfl⟩, ⟨eB, h1⟩, Or.inl ⟨rfl, rfl⟩, by rw [stN_r rfl]; exact h2⟩
      have j2 : emB s x (y + 1) = true → stB s x y 1 = false → Jn s t (8 * (y + 1) + x).toNat := fun h1 h2 => ⟨x, y, x, y + 1, ⟨ht, rfl⟩, ⟨eB, h1⟩, Or.inr ⟨rfl, rfl⟩, by rw [stN_d rfl]; exact h2⟩
      have j3 : emB s (x - 1) y = true → stB s (x - 1) y 0 = false → Jn s (8 * y + (x - 1)).toNat t := fun h1 h2 => ⟨x - 1, y, x, y, ⟨rfl, ht⟩, ⟨h1, eB⟩, Or.inl ⟨by omega, rfl⟩, by rw [stN_r (by omega)]; exact h2⟩
      have j4 : emB s x (y - 1) = true → stB s x (y - 1) 1 = false → Jn s (8 * (y - 1) + x).toNat t := fun h1 h2 => ⟨x, y - 1, x, y, ⟨rfl, ht⟩, ⟨h1, eB⟩, Or.inr ⟨rfl, by omega⟩, by rw [stN_d (by omega)]; exact h2⟩
      obtain ⟨R1, S1, Q1, n1, e1, F1, x1, q1⟩ := c_step (z := z) hg H hD hB hc hR0 h0 F (sx := x) (sy := y) (d := 0) (u := x + 1) (v := y) (by omega) (by omega) (by omega) (fun _ => ⟨bx, by'⟩) (fun h1 h2 => (lf.2 _ _ (j1 h1 h2)).symm.trans lt)
      rw [e1, bV_rV, rK, Option.bind_some]
      obtain ⟨R2, S2, Q2, n2, e2, F2, x2, q2⟩ := c_step (z := z) hg H hD hB hc hR0 h0 F1 (sx := x) (sy := y) (d := 1) (u := x) (v := y + 1) (by omega) (by omega) (by omega) (fun _ => ⟨bx, by'⟩) (fun h1 h2 => (lf.2 _ _ (j2 h1 h2)).symm.trans lt)
      rw [e2, bV_rV, rK, Option.bind_some]
      obtain ⟨R3, S3, Q3, n3, e3, F3, x3, q3⟩ := c_step (z := z) hg H hD hB hc hR0 h0 F2 (sx := x - 1) (sy := y) (d := 0) (u := x - 1) (v := y) (by omega) (by omega) (by omega) (fun h => by have := emB_b hD h; omega) (fun h1 h2 => (lf.2 _ _ (j3 h1 h2)).trans lt)
      rw [e3, bV_rV, rK, Option.bind_some]
      obtain ⟨R4, S4, Q4, n4, e4, F4, x4, q4⟩ := c_step (z := z) hg H hD hB hc hR0 h0 F3 (sx := x) (sy := y - 1) (d := 1) (u := x) (v := y - 1) (by omega) (by omega) (by omega) (fun h => by have := emB_b hD h; omega) (fun h1 h2 => (lf.2 _ _ (j4 h1 h2)).trans lt)
      rw [e4, bV_rV]
      have x34 := x3.trans x4
      have x24 := x2.trans x34
      have x14 := x1.trans x24
      have cl' : Clq s c R4 Q4 (hd + 1) := fun i hi t' ht' hq' b hb => by
        rw [x14.2.1 i (by omega)] at hq'
        by_cases ei : i = hd
        · subst ei
          have : t' = t := by omega
          subst this
          rcases hb with ⟨x', y', u', v', ⟨a1, a2⟩, ⟨c1, c2⟩, hn, c3⟩ | ⟨x', y', u', v', ⟨a1, a2⟩, ⟨c1, c2⟩, hn, c3⟩
          · have i1 := emB_b hD c1
            have i2 := emB_b hD c2
            have d0 := hD.1
            have d1 := hD.2
            have ex : x' = x := by omega
            have ey : y' = y := by omega
            subst ex; subst ey
            rcases hn with ⟨rfl, rfl⟩ | ⟨rfl, rfl⟩
            · rw [stN_r rfl] at c3
              rw [a2]
              exact x24.2.2 _ (by omega) (q1 c2 c3)
            · rw [stN_d rfl] at c3
              rw [a2]
              exact x34.2.2 _ (by omega) (q2 c2 c3)
          · have i1 := emB_b hD c1
            have i2 := emB_b hD c2
            have d0 := hD.1
            have d1 := hD.2
            have ex : u' = x := by omega
            have ey : v' = y := by omega
            subst ex; subst ey
            rcases hn with ⟨h1, rfl⟩ | ⟨rfl, h1⟩
            · rw [stN_r h1] at c3
              have : x' = u' - 1 := by omega
              subst this
              rw [a1]
              exact x4.2.2 _ (by omega) (q3 c1 c3)
            · rw [stN_d h1] at c3
              have : y' = v' - 1 := by omega
              subst this
              rw [a1]
              exact q4 c1 c3
        · have b64 : b < 64 := by
            rcases hb with hb | hb
            · exact (Jn_b hD hb).1.2
            · exact (Jn_b hD hb).1.1
          exact x14.2.2 b b64 (cl i (by omega) t' ht' hq' b hb)
      obtain ⟨R5, S5, Q5, n5, e5, F5, x5, q5⟩ := ih F4 cl' (by have := x14.1; omega) (by omega) (v4 := some (.int (iI x))) (v5 := some (.int (iI y)))
      exact ⟨R5, S5, Q5, n5, e5, F5, x14.trans x5, q5⟩
/-- a region's size -/
def szF (L : Nat → Nat) (p : Nat) : Int := sm (fun t => bB (decide (L t = p))) 64
theorem c_fill (hg : ∀ q, n ≤ q → g q = none) (H : GR G D M g a s np) (hD : Dm s) (hB : RB s) (hc : 0 ≤ c ∧ c < 64) (hR0 : ∀ q, q < 64 → -1 ≤ R0 q ∧ R0 q ≤ 64) (lf : Lf s L) (h0 : ∀ q, q < 64 → emQ s q = true → L q = p → R0 q = -1) (hn : ∀ q, q < 64 → R0 q ≠ c) (hS : S0 c.toNat = 0) {x y : Int} (h1 : 0 ≤ x ∧ x ≤ 7) (h2 : 0 ≤ y ∧ y ≤ 7) (hp : p = (8 * y + x).toNat) (he : emB s x y = true) (hL : L p = p) : ∃ R' Q', t_Ev (t_pg G) t_hd Y_X11_fill 0 ([some (.ref n), some (.int (iI x)), some (.int (iI y)), none, none, none], [], (hR n a R0 S0 Q c g, z)) = rV (hR n a R' (fU S0 c.toNat (szF L p)) Q' c g, z) ∧ ∀ q, q < 64 → R' q = if L q = p then c else R0 q := by
  have p64 : p < 64 := by omega
  have ep : emQ s p = true := by rw [hp, emQ_at h1 h2]; exact he
  have z0 : sm (fun q => bB (decide (R0 q = c))) 64 = 0 := by
    rw [sm_congr (g := fun _ => 0) fun q hq => by rw [decide_eq_false (hn q hq)]; rfl, sm_const]
    rfl
  have F0 : FS s L p c R0 S0 R0 S0 Q 0 := ⟨fun q hq => ⟨fun h => absurd h (hn q hq), fun ⟨i, hi, _⟩ => absurd hi (Nat.not_lt_zero i)⟩, fun _ _ _ => rfl, fun q hq h => absurd h (hn q hq), z0.symm, by
    funext j
    by_cases e : j = c.toNat
    · rw [e, fU_s]; exact hS
    · rw [fU_n e], fun i hi => absurd hi (Nat.not_lt_zero i)⟩
  have F1 := F0.enter p64 (hn p p64) ep hL
  obtain ⟨R', S', Q', nn', e, F, X, C⟩ := c_fl8 (z := z) hg H hD hB hc hR0 lf h0 (v1 := some (.int (iI x))) (v2 := some (.int (iI y))) 64 F1 (hd := 0) (fun i hi => absurd hi (Nat.not_lt_zero i)) (Nat.zero_le _) (by decide) (v4 := none) (v5 := none)
  have cl : ∀ a b, Jn s a b → (R' a = c ↔ R' b = c) := fun a b j => by
    obtain ⟨⟨ha, hb⟩, -⟩ := Jn_b hD j
    constructor
    · intro h
      obtain ⟨i, hi, hq⟩ := (F.f1 a ha).mp h
      exact C i hi a ha hq b (Or.inl j)
    · intro h
      obtain ⟨i, hi, hq⟩ := (F.f1 b hb).mp h
      exact C i hi b hb hq a (Or.inr j)
  have all : ∀ q, q < 64 → (R' q = c ↔ L q = p) := fun q hq => by
    constructor
    · intro h
      exact (F.f3 q hq h).2
    · intro h
      refine (lf.1.2 (fun q => R' q = c) cl q hq).mp ?_
      show R' (L q) = c
      rw [h]
      exact X.2.2 p p64 fU_s
  have sz : (nn' : Int) = szF L p := by
    rw [F.f4]
    exact sm_congr fun q hq => by
      by_cases e : L q = p
      · rw [decide_eq_true e, decide_eq_true ((all q hq).mpr e)]
      · rw [decide_eq_false e, decide_eq_false fun h => e ((all q hq).mp h)]
  refine ⟨R', Q', ?_, fun q hq => ?_⟩
  · rw [b_X11_fill_0, rK, Option.bind_some, c_enter hg H h1 h2 hc (by omega), bV_rV, hS, ← hp, show 8 * y + x = (p : Int) by omega]
    refine Eq.trans e ?_
    rw [F.f5, sz]
  · by_cases e : L q = p
    · rw [if_pos e]; exact (all q hq).mpr e
    · rw [if_neg e]; exact F.f2 q hq fun h => e ((all q hq).mp h)
end CFL
