/-! ===== regions: the component's object ===== -/
/-- n: the object, with its three arrays behind it; a: its game -/
def hR (n a : Nat) (R S Q : Nat → Int) (c : Int) (g : tAH) : tAH := fun q =>
  if q = n then some (true, 7, .inl [.ref a, .ref (n+1), .ref (n+2), .ref (n+3), .int (iI c)])
  else if q = n + 1 then some (true, 0, .inr (64, .inl (fun j => iI (R j))))
  else if q = n + 2 then some (true, 0, .inr (64, .inl (fun j => iI (S j))))
  else if q = n + 3 then some (true, 0, .inr (64, .inl (fun j => iI (Q j))))
  else g q
section HR
variable {n a : Nat} {R S Q : Nat → Int} {c : Int} {g : tAH}
theorem hR_0 : hR n a R S Q c g n = some (true, 7, .inl [.ref a, .ref (n+1), .ref (n+2), .ref (n+3), .int (iI c)]) := by simp [hR]
theorem hR_1 : hR n a R S Q c g (n+1) = some (true, 0, .inr (64, .inl (fun j => iI (R j)))) := by simp [hR]
theorem hR_2 : hR n a R S Q c g (n+2) = some (true, 0, .inr (64, .inl (fun j => iI (S j)))) := by simp [hR]
theorem hR_3 : hR n a R S Q c g (n+3) = some (true, 0, .inr (64, .inl (fun j => iI (Q j)))) := by simp [hR]
theorem hR_g {q : Nat} (h : q < n) : hR n a R S Q c g q = g q := by
  unfold hR
  rw [if_neg (by omega), if_neg (by omega), if_neg (by omega), if_neg (by omega)]
theorem rK : t_kN (hR n a R S Q c g) (.ref n) 7 = some n := kN_at hR_0
theorem rg0 : gfR (hR n a R S Q c g) (.ref n) 7 0 = some (some a) := gfR_at hR_0 rfl
theorem rg1 : gfR (hR n a R S Q c g) (.ref n) 7 1 = some (some (n+1)) := gfR_at hR_0 rfl
theorem rg2 : gfR (hR n a R S Q c g) (.ref n) 7 2 = some (some (n+2)) := gfR_at hR_0 rfl
theorem rg3 : gfR (hR n a R S Q c g) (.ref n) 7 3 = some (some (n+3)) := gfR_at hR_0 rfl
theorem rg4 : gfI (hR n a R S Q c g) (.ref n) 7 4 = some (iI c) := gfI_at hR_0 rfl
theorem rl1 {z : Int} (h0 : 0 ≤ z) (h1 : z < 64) : ldI (hR n a R S Q c g) (.ref (n+1)) (iI z) 0 0 = some (iI (R z.toNat)) := ldI_at hR_1 (by decide) h0 h1 (by decide)
theorem rl2 {z : Int} (h0 : 0 ≤ z) (h1 : z < 64) : ldI (hR n a R S Q c g) (.ref (n+2)) (iI z) 0 0 = some (iI (S z.toNat)) := ldI_at hR_2 (by decide) h0 h1 (by decide)
theorem rl3 {z : Int} (h0 : 0 ≤ z) (h1 : z < 64) : ldI (hR n a R S Q c g) (.ref (n+3)) (iI z) 0 0 = some (iI (Q z.toNat)) := ldI_at hR_3 (by decide) h0 h1 (by decide)
theorem rs1 {z v : Int} (h0 : 0 ≤ z) (h1 : z < 64) : stI (hR n a R S Q c g) (.ref (n+1)) (iI z) 0 0 (iI v) = some (hR n a (fU R z.toNat v) S Q c g) := by
  rw [stI_at hR_1 (by decide) h0 h1 (by decide)]
  refine congrArg some (funext fun q => ?_)
  by_cases h : q = n + 1
  · subst h
    rw [t_up_s, hR_1, mUpd]
  · rw [t_up_n h]
    simp only [hR, if_neg h]
theorem rs2 {z v : Int} (h0 : 0 ≤ z) (h1 : z < 64) : stI (hR n a R S Q c g) (.ref (n+2)) (iI z) 0 0 (iI v) = some (hR n a R (fU S z.toNat v) Q c g) := by
  rw [stI_at hR_2 (by decide) h0 h1 (by decide)]
  refine congrArg some (funext fun q => ?_)
  by_cases h : q = n + 2
  · subst h
    rw [t_up_s, hR_2, mUpd]
  · rw [t_up_n h]
    simp only [hR, if_neg h]
theorem rs3 {z v : Int} (h0 : 0 ≤ z) (h1 : z < 64) : stI (hR n a R S Q c g) (.ref (n+3)) (iI z) 0 0 (iI v) = some (hR n a R S (fU Q z.toNat v) c g) := by
  rw [stI_at hR_3 (by decide) h0 h1 (by decide)]
  refine congrArg some (funext fun q => ?_)
  by_cases h : q = n + 3
  · subst h
    rw [t_up_s, hR_3, mUpd]
  · rw [t_up_n h]
    simp only [hR, if_neg h]
theorem rgp4 {v : Int} : pfV (hR n a R S Q c g) (.ref n) 7 4 (.int (iI v)) = some (hR n a R S Q v g) := by
  rw [pf_at hR_0 (Nat.le_of_ble_eq_true rfl)]
  refine congrArg some (funext fun q => ?_)
  by_cases h : q = n
  · subst h; rw [t_up_s, hR_0]; rfl
  · rw [t_up_n h]; simp only [hR, if_neg h]
theorem GR.hr {G : tG} {D M : Nat → Prop} {s : tRow} {np : Nat} (hg : ∀ q, n ≤ q → g q = none) (H : GR G D M g a s np) : GR G D M (hR n a R S Q c g) a s np := H.kp fun q e hq _ => by
  have hl : q < n := by
    rcases Nat.lt_or_ge q n with h | h
    · exact h
    · rw [hg q h] at hq; cases hq
  exact (hR_g hl).trans hq
theorem Fi.hr {z : Nat} (hg : ∀ q, n ≤ q → g q = none) : Fi (hR n a R S Q c g, n + 4, z) := fun q hq => by
  have hq' : n + 4 ≤ q := hq
  show hR n a R S Q c g q = none
  unfold hR
  rw [if_neg (by omega), if_neg (by omega), if_neg (by omega), if_neg (by omega)]
  exact hg q (by omega)
end HR
/-- a cell by its number -/
def emQ (s : tRow) (t : Nat) : Bool := emB s ((t % 8 : Nat) : Int) ((t / 8 : Nat) : Int)
theorem emQ_at {s : tRow} {x y : Int} (h1 : 0 ≤ x ∧ x ≤ 7) (h2 : 0 ≤ y ∧ y ≤ 7) : emQ s (8 * y + x).toNat = emB s x y := by
  unfold emQ
  have e1 : (((8 * y + x).toNat % 8 : Nat) : Int) = x := by omega
  have e2 : (((8 * y + x).toNat / 8 : Nat) : Int) = y := by omega
  rw [e1, e2]
theorem emB_b {s : tRow} (hD : Dm s) {x y : Int} (h : emB s x y = true) : (0 ≤ x ∧ x < s 0) ∧ 0 ≤ y ∧ y < s 1 := inB_iff.mp (emB_iff.mp h).1
section CRG
variable {G : tG} {D M : Nat → Prop} {n a : Nat} {R S Q : Nat → Int} {c : Int} {g : tAH} {z : Nat × Nat} {s : tRow} {np : Nat}
theorem c_isFree (hg : ∀ q, n ≤ q → g q = none) (H : GR G D M g a s np) (hD : Dm s) (hB : RB s) (hR' : ∀ q, q < 64 → -1 ≤ R q ∧ R q ≤ 64) {x y : Int} (h1 : -1 ≤ x ∧ x ≤ 8) (h2 : -1 ≤ y ∧ y ≤ 8) : t_Ev (t_pg G) t_hd Y_X11_isFree 0 ([some (.ref n), some (.int (iI x)), some (.int (iI y))], [], (hR n a R S Q c g, z)) = rB (emB s x y && decide (R (8 * y + x).toNat = -1)) (hR n a R S Q c g, z) := by
  have H' : GR G D M (hR n a R S Q c g, z).1 a s np := H.hr hg
  rw [b_X11_isFree_0]
  simp only [Option.bind_some, va_rf_some, va_rf_none, bI_rI, bI_rB, bV_rV, bB_0, bB_1, iI_add, iI_sub, iI_mul, iI_neg, rI_of, rV_of, Int.reduceToNat, Int.neg_neg, rg0]
  rw [H'.k, Option.bind_some, c_isInside H' hD (by omega) (by omega) (by omega) (by omega), bI_rB]
  simp only [bB_0]
  unfold emB
  cases hi : inB s x y with
  | false => rfl
  | true =>
    have i7 := inB_7 hD hi
    have hc := hB.c x y
    have e8 : y * 8 + x = 8 * y + x := by omega
    have hr := hR' (8 * y + x).toNat (by omega)
    rw [if_neg (by decide), rg0, Option.bind_some, va_rf_some, H'.k, Option.bind_some, c_cell H' (by omega) (by omega) (by omega) (by omega), bI_rI]
    simp only [enc_m1 hc.1 hc.2, Bool.true_and]
    by_cases c0 : cI s x y = 0
    · rw [if_pos c0, decide_eq_true c0, Bool.true_and, rg1, Option.bind_some, rg0, Option.bind_some, va_rf_some, H'.k, Option.bind_some, c_indexOf, bI_rI, e8, va_rf_some, rl1 (by omega) (by omega), Option.bind_some]
      simp (disch := omega) only [iI_inj]
      exact rB_dec
    · rw [if_neg c0, decide_eq_false c0]; rfl
theorem c_enter (hg : ∀ q, n ≤ q → g q = none) (H : GR G D M g a s np) {x y : Int} (h1 : 0 ≤ x ∧ x ≤ 7) (h2 : 0 ≤ y ∧ y ≤ 7) (hc : 0 ≤ c ∧ c < 64) (hS : 0 ≤ S c.toNat ∧ S c.toNat < 64) : t_Ev (t_pg G) t_hd Y_X11_enter 0 ([some (.ref n), some (.int (iI x)), some (.int (iI y)), none], [], (hR n a R S Q c g, z)) = rV (hR n a (fU R (8 * y + x).toNat c) (fU S c.toNat (S c.toNat + 1)) (fU Q (S c.toNat).toNat (8 * y + x)) c g, z) := by
  have H' : GR G D M (hR n a R S Q c g, z).1 a s np := H.hr hg
  have e8 : y * 8 + x = 8 * y + x := by omega
  rw [b_X11_enter_0]
  simp only [Option.bind_some, va_rf_some, va_rf_none, bI_rI, bI_rB, bV_rV, bB_0, bB_1, iI_add, iI_sub, iI_mul, iI_neg, rI_of, rV_of, Int.reduceToNat, Int.neg_neg, rg0]
  rw [H'.k, Option.bind_some, c_indexOf, bI_rI, e8]
  simp (disch := omega) only [Option.bind_some, va_rf_some, va_rf_none, bI_rI, bI_rB, bV_rV, bB_0, bB_1, iI_add, iI_sub, iI_mul, iI_neg, rI_of, rV_of, Int.reduceToNat, Int.neg_neg, rg1, rg2, rg3, rg4, rl2, rs1, rs3, rs2]
end CRG
