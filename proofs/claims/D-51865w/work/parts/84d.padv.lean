/-! ===== the component's parser: its tokens ===== -/
/-- a byte's number as Java's byte has it -/
def sgn (v : Int) : Int := if v < 128 then v else v - 256
/-- the parser's cell -/
def pcl (tv : Value) (pos st kd va : Int) (w xa : Nat) : tEnt := (true, 6, .inl [tv, .int (iI pos), .int (iI st), .int (iI kd), .int (iI va), .ref w, .ref xa])
/-- the object's input -/
def CI (h : tAH) (xa ia : Nat) (inp : Nat → Int) (n : Nat) : Prop := (∃ bx fl, h xa = some (bx, 0, .inl fl) ∧ fl[2]? = some (.ref ia) ∧ fl[3]? = some (.int (iI (n : Int)))) ∧ ∃ bi q, h ia = some (bi, 2, .inr (600, .inl q)) ∧ ∀ j, j < n → q j = iI (sgn (inp j))
theorem CI.cg {h h' : tAH} {xa ia : Nat} {inp : Nat → Int} {n : Nat} (c : CI h xa ia inp n) (h1 : h' xa = h xa) (h2 : h' ia = h ia) : CI h' xa ia inp n := by
  obtain ⟨⟨bx, fl, e1, e2, e3⟩, bi, q, e4, e5⟩ := c
  exact ⟨⟨bx, fl, h1.trans e1, e2, e3⟩, bi, q, h2.trans e4, e5⟩
theorem CI.len {h : tAH} {xa ia : Nat} {inp : Nat → Int} {n : Nat} (c : CI h xa ia inp n) : gfI h (.ref xa) 0 3 = some (iI (n : Int)) := by
  obtain ⟨⟨bx, fl, e1, e2, e3⟩, -⟩ := c
  exact gfI_at e1 e3
theorem CI.arr {h : tAH} {xa ia : Nat} {inp : Nat → Int} {n : Nat} (c : CI h xa ia inp n) : gfR h (.ref xa) 0 2 = some (some ia) := by
  obtain ⟨⟨bx, fl, e1, e2, e3⟩, -⟩ := c
  exact gfR_at e1 e2
theorem CI.ld {h : tAH} {xa ia : Nat} {inp : Nat → Int} {n : Nat} (c : CI h xa ia inp n) {j : Nat} (hj : j < n) (hn : n ≤ 600) : ldI h (.ref ia) (iI (j : Int)) 1 2 = some (iI (sgn (inp j))) := by
  obtain ⟨-, bi, q, e4, e5⟩ := c
  rw [ldI_at e4 (Or.inr rfl) (by omega) (by omega) (by decide), Int.toNat_natCast, e5 j hj]
theorem CI.ne {h : tAH} {xa ia u : Nat} {inp : Nat → Int} {n : Nat} (c : CI h xa ia inp n) {e : List Value} {b : Bool} {k : Nat} (hu : h u = some (b, k, .inl e)) (hk : k ≠ 0) : xa ≠ u ∧ ia ≠ u := by
  obtain ⟨⟨bx, fl, e1, e2, e3⟩, bi, q, e4, e5⟩ := c
  refine ⟨ne_tg e1 hu ?_, ne_tg e4 hu ?_⟩
  · show ((0 : Nat), 0) ≠ (k, 0)
    intro z
    injection z with z
    exact hk z.symm
  · show ((2 : Nat), 601) ≠ (k, 0)
    intro z
    injection z with z1 z2
    cases z2
theorem sgn_b {v : Int} (h : 0 ≤ v ∧ v ≤ 255) : -128 ≤ sgn v ∧ sgn v ≤ 127 := by unfold sgn; split <;> omega
theorem sgn_lo {v : Int} (h : 0 ≤ v ∧ v ≤ 255) {a : Int} (ha : 0 ≤ a ∧ a ≤ 127) : (sgn v = a ↔ v = a) ∧ (sgn v < a ↔ v < a ∨ 128 ≤ v) ∧ (a < sgn v ↔ a < v ∧ v < 128) := by unfold sgn; split <;> omega
theorem vl_min {inp : Nat → Int} {n p : Nat} {v : Int} (hp : p < n) (hd : isDg inp p = true) (hv : 0 ≤ v) : vl inp n (n - p) p v = vl inp n (n - (p + 1)) (p + 1) (min 100000 (v * 10 + inp p - 48)) := by
  rw [vl_step, if_pos ⟨hp, hd⟩]
section PV
variable {G : tG} {hs : tHS} {u xa ia n : Nat} {inp : Nat → Int} {tv : Value} {st kd : Int} {w : Nat}
/-- the fields of a parser's cell -/
theorem pc_1 {h : tAH} {pos st kd va : Int} : gfI (t_up h u (pcl tv pos st kd va w xa)) (.ref u) 6 1 = some (iI pos) := gfI_at t_up_s rfl
theorem pc_2 {h : tAH} {pos st kd va : Int} : gfI (t_up h u (pcl tv pos st kd va w xa)) (.ref u) 6 2 = some (iI st) := gfI_at t_up_s rfl
theorem pc_3 {h : tAH} {pos st kd va : Int} : gfI (t_up h u (pcl tv pos st kd va w xa)) (.ref u) 6 3 = some (iI kd) := gfI_at t_up_s rfl
theorem pc_4 {h : tAH} {pos st kd va : Int} : gfI (t_up h u (pcl tv pos st kd va w xa)) (.ref u) 6 4 = some (iI va) := gfI_at t_up_s rfl
theorem pc_6 {h : tAH} {pos st kd va : Int} : gfR (t_up h u (pcl tv pos st kd va w xa)) (.ref u) 6 6 = some (some xa) := gfR_at t_up_s rfl
theorem pc_5 {h : tAH} {pos st kd va : Int} : gfR (t_up h u (pcl tv pos st kd va w xa)) (.ref u) 6 5 = some (some w) := gfR_at t_up_s rfl
theorem pc_k {h : tAH} {pos st kd va : Int} : t_kN (t_up h u (pcl tv pos st kd va w xa)) (.ref u) 6 = some u := kN_at t_up_s
theorem pp_1 {h : tAH} {pos st kd va v : Int} : pfV (t_up h u (pcl tv pos st kd va w xa)) (.ref u) 6 1 (.int (iI v)) = some (t_up h u (pcl tv v st kd va w xa)) := by
  unfold pcl
  rw [pf_at t_up_s (Nat.le_of_ble_eq_true rfl), t_up_up]; rfl
theorem pp_2 {h : tAH} {pos st kd va v : Int} : pfV (t_up h u (pcl tv pos st kd va w xa)) (.ref u) 6 2 (.int (iI v)) = some (t_up h u (pcl tv pos v kd va w xa)) := by
  unfold pcl
  rw [pf_at t_up_s (Nat.le_of_ble_eq_true rfl), t_up_up]; rfl
theorem pp_3 {h : tAH} {pos st kd va v : Int} : pfV (t_up h u (pcl tv pos st kd va w xa)) (.ref u) 6 3 (.int (iI v)) = some (t_up h u (pcl tv pos st v va w xa)) := by
  unfold pcl
  rw [pf_at t_up_s (Nat.le_of_ble_eq_true rfl), t_up_up]; rfl
theorem pp_4 {h : tAH} {pos st kd va v : Int} : pfV (t_up h u (pcl tv pos st kd va w xa)) (.ref u) 6 4 (.int (iI v)) = some (t_up h u (pcl tv pos st kd v w xa)) := by
  unfold pcl
  rw [pf_at t_up_s (Nat.le_of_ble_eq_true rfl), t_up_up]; rfl
theorem pp_5 {h : tAH} {pos st kd va : Int} {w' : Nat} : pfV (t_up h u (pcl tv pos st kd va w xa)) (.ref u) 6 5 (.ref w') = some (t_up h u (pcl tv pos st kd va w' xa)) := by
  unfold pcl
  rw [pf_at t_up_s (Nat.le_of_ble_eq_true rfl), t_up_up]; rfl
/-- the digits -/
theorem c_digits {h : tAH} {z : Nat × Nat} (hI : IB inp) (hn : n ≤ 600) (c : ∀ e, CI (t_up h u e) xa ia inp n) : ∀ (d p : Nat) (v : Int), n - p = d → p ≤ n → (0 ≤ v ∧ v ≤ 100000) → t_Ev (t_pg G) t_hd Y_X6_readDigits 5 ([some (.ref u)], [], (t_up h u (pcl tv p st kd (min 1000 v) w xa), z)) = rV (t_up h u (pcl tv (rn (isDg inp) n (n - p) p) st kd (min 1000 (vl inp n (n - p) p v)) w xa), z) := by
  intro d
  induction d with
  | zero =>
    intro p v hd hp hv
    rw [hd, show rn (isDg inp) n 0 p = p from rfl, show vl inp n 0 p v = v from rfl, b_X6_readDigits_5, pc_1]
    simp (disch := omega) only [Option.bind_some, pc_6, va_rf_some, (c _).len, iI_lt]
    rw [if_neg (by omega)]
    rfl
  | succ d ih =>
    intro p v hd hp hv
    have hb := hI p
    have sb := sgn_b hb
    obtain ⟨-, s1, -⟩ := sgn_lo hb (a := 48) (by decide)
    obtain ⟨-, -, s2⟩ := sgn_lo hb (a := 57) (by decide)
    rw [rn_step, vl_step, b_X6_readDigits_5, pc_1]
    simp (disch := omega) only [Option.bind_some, pc_6, pc_1, va_rf_some, (c _).len, (c _).arr, (c _).ld (show p < n by omega) hn, iI_lt]
    rw [if_pos (by omega)]
    by_cases g1 : isDg inp p = true
    · have g := isB_iff.mp g1
      have sg : sgn (inp p) = inp p := by unfold sgn; rw [if_pos (by omega)]
      rw [if_neg (by omega), if_neg (by omega), if_pos ⟨by omega, g1⟩, if_pos ⟨by omega, g1⟩, sg]
      simp only [pc_4, Option.bind_some, iI_mul, iI_add, iI_sub]
      rw [e_min (by decide) (by decide) (by omega) (by omega), bI_rI]
      simp only [pp_4, pp_1, pc_1, Option.bind_some, iI_add]
      rw [show min 1000 (min 1000 v * 10 + inp p - 48) = min 1000 (min 100000 (v * 10 + inp p - 48)) by omega]
      exact ih (p + 1) (min 100000 (v * 10 + inp p - 48)) (by omega) (by omega) (by omega)
    · rw [if_neg (show ¬ (p < n ∧ isDg inp p = true) from fun q => g1 q.2), if_neg (show ¬ (p < n ∧ isDg inp p = true) from fun q => g1 q.2)]
      have ng : ¬ (48 ≤ inp p ∧ inp p ≤ 57) := fun q => g1 (isB_iff.mpr q)
      by_cases q : sgn (inp p) < 48
      · rw [if_pos q]; rfl
      · rw [if_neg q, if_pos (by omega)]; rfl
/-- its error -/
theorem c_error {c : Int} (hF : Fi hs) {tv : Value} {pos st kd va : Int} (hu : hs.1 u = some (pcl tv pos st kd va w xa)) : t_Ev (t_pg G) t_hd Y_X6_error 0 ([some (.ref u), some (.int (iI c))], [], hs) = rR (some hs.2.1) (t_al hs (true, 13, .inl [.int (iI c), .int (iI st)]) 8) := by
  have ul := hF.lt hu
  have hu' : (t_al hs (true, 13, .inl [.int (iI 0), .int (iI 0)]) 8).1 u = some (pcl tv pos st kd va w xa) := (t_up_n (by omega)).trans hu
  have he : (t_al hs (true, 13, .inl [.int (iI 0), .int (iI 0)]) 8).1 hs.2.1 = some (true, 13, .inl [.int (iI 0), .int (iI 0)]) := t_up_s
  rw [b_X6_error_0, gfI_at (k := 2) (x := iI st) hu' rfl, Option.bind_some, b_X7_init_0]
  have km : t_kM (t_al hs (true, 13, .inl [.int (iI 0), .int (iI 0)]) 8).1 (.ref hs.2.1) 13 = some hs.2.1 := by simp only [t_kM, he, if_true]
  rw [km, Option.bind_some, pf_at he (Nat.le_of_ble_eq_true rfl), Option.bind_some, pf_at t_up_s (Nat.le_of_ble_eq_true rfl), Option.bind_some, t_up_up, al_1, t_up_up]
  rfl
end PV
