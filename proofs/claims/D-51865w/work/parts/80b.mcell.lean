/-! ===== the model: cells, edges, placements, on its row ===== -/
abbrev tRow : Type := Nat → Int
/-- the row's measures -/
abbrev Dm (s : tRow) : Prop := (0 ≤ s 0 ∧ s 0 ≤ 8) ∧ 0 ≤ s 1 ∧ s 1 ≤ 8
def isB (v lo hi : Int) : Bool := decide (lo ≤ v) && decide (v ≤ hi)
def inB (s : tRow) (x y : Int) : Bool := isB x 0 (s 0 - 1) && isB y 0 (s 1 - 1)
def cI (s : tRow) (x y : Int) : Int := s (33 + (8 * y + x)).toNat
def edI (x y d : Int) : Int := (if d = 0 then 97 else 161) + (8 * y + x)
def isEd (s : tRow) (x y d : Int) : Bool := inB s x y && (if d = 0 then inB s (x + 1) y else inB s x (y + 1))
/-- a strap at an edge -/
def stB (s : tRow) (x y d : Int) : Bool := decide (s (edI x y d).toNat = 1)
/-- a strap between two neighbours -/
def stN (s : tRow) (x y u v : Int) : Bool := stB s (min x u) (min y v) (if y = v then 0 else 1)
def nei (x y u v : Int) : Bool := decide (aI (x - u) + aI (y - v) = 1)
theorem isB_iff {v lo hi : Int} : isB v lo hi = true ↔ lo ≤ v ∧ v ≤ hi := by simp [isB]
theorem inB_iff {s : tRow} {x y : Int} : inB s x y = true ↔ (0 ≤ x ∧ x < s 0) ∧ 0 ≤ y ∧ y < s 1 := by
  unfold inB
  rw [Bool.and_eq_true, isB_iff, isB_iff]
  omega
theorem if_not_t {α : Type} {b : Bool} {x y : α} : (if ¬ b = true then x else y) = if b = false then x else y := by cases b <;> rfl
theorem rB_and {a b : Bool} {hs : tHS} : (if a = false then rI 0 hs else rB b hs) = rB (a && b) hs := by cases a <;> rfl
theorem rB_dec {p : Prop} [Decidable p] {hs : tHS} : (if p then rI 1 hs else rI 0 hs) = rB (decide p) hs := by by_cases h : p <;> simp [h, rB, bB]
theorem rB_ndec {p : Prop} [Decidable p] {hs : tHS} : (if p then rI 0 hs else rI 1 hs) = rB (!decide p) hs := by by_cases h : p <;> simp [h, rB, bB]
/-- loops that leave something behind -/
theorem lp_ex {β σ : Type} {F : Nat → σ → β} {R : σ → σ → Prop} (hr : ∀ c, R c c) (ht : ∀ a b c, R a b → R b c → R a c) {N : Nat} (h : ∀ k, k < N → ∀ c, ∃ c', F k c = F (k + 1) c' ∧ R c c') : ∀ c, ∃ c', F 0 c = F N c' ∧ R c c' := by
  induction N with
  | zero => exact fun c => ⟨c, rfl, hr c⟩
  | succ n ih =>
    intro c
    obtain ⟨c1, e1, r1⟩ := ih (fun k hk => h k (Nat.lt_succ_of_lt hk)) c
    obtain ⟨c2, e2, r2⟩ := h n (Nat.lt_succ_self n) c1
    exact ⟨c2, e1.trans e2, ht _ _ _ r1 r2⟩
theorem lp_e0 {β σ : Type} {F : Nat → σ → β} {N : Nat} (h : ∀ k, k < N → ∀ c, ∃ c', F k c = F (k + 1) c') : ∀ c, ∃ c', F 0 c = F N c' := fun c => by
  obtain ⟨c', e, -⟩ := lp_ex (F := F) (R := fun _ _ => True) (fun _ => trivial) (fun _ _ _ _ _ => trivial) (N := N) (fun k hk c => by
    obtain ⟨c', e⟩ := h k hk c
    exact ⟨c', e, trivial⟩) c
  exact ⟨c', e⟩
section MC
variable {G : tG} {m : Nat} {fi : Nat → Int} {ar : Nat → Nat → Int} {g : tAH} {z : Nat × Nat} {hs : tHS}
theorem e_isIn {v lo hi : Int} (h1 : -2147483648 ≤ v) (h2 : v ≤ 2147483647) (h3 : -2147483648 ≤ lo) (h4 : lo ≤ 2147483647) (h5 : -2147483648 ≤ hi) (h6 : hi ≤ 2147483647) : t_Ev (t_pg G) t_hd Y_X5_isIn 0 ([some (.int (iI v)), some (.int (iI lo)), some (.int (iI hi))], [], hs) = rB (isB v lo hi) hs := by
  rw [b_X5_isIn_0]
  simp only [iI_lt h1 h2 h3 h4, iI_lt h5 h6 h1 h2, rI_of]
  unfold isB
  by_cases c1 : v < lo
  · rw [if_pos c1, decide_eq_false (by omega)]; rfl
  · rw [if_neg c1, decide_eq_true (by omega)]
    by_cases c2 : hi < v
    · rw [if_pos c2, decide_eq_false (by omega)]; rfl
    · rw [if_neg c2, decide_eq_true (by omega)]; rfl
theorem e_isInside (hD : Dm (ar 0)) {x y : Int} (h1 : -2147483648 ≤ x) (h2 : x ≤ 2147483647) (h3 : -2147483648 ≤ y) (h4 : y ≤ 2147483647) : t_Ev (t_pg G) t_hd Y_X5_isInside 0 ([some (.ref m), some (.int (iI x)), some (.int (iI y))], [], hM m fi ar g, z) = rB (inB (ar 0) x y) (hM m fi ar g, z) := by
  rw [b_X5_isInside_0]
  simp (disch := omega) only [mgR0, Option.bind_some, va_rf_some, mld0, iI_sub, e_isIn, bI_rB, bB_0, rI_of, Int.reduceToNat, rB_if', rB_and]
  (try rfl)
theorem e_at {x y : Int} : t_Ev (t_pg G) t_hd Y_X5_at 0 ([some (.int (iI x)), some (.int (iI y))], [], hs) = rI (8 * y + x) hs := by
  rw [b_X5_at_0]
  simp only [iI_mul, iI_add, rI_of]
theorem e_cell {x y : Int} (h1 : 0 ≤ x) (h2 : x ≤ 7) (h3 : 0 ≤ y) (h4 : y ≤ 7) : t_Ev (t_pg G) t_hd Y_X5_cell 0 ([some (.ref m), some (.int (iI x)), some (.int (iI y))], [], hM m fi ar g, z) = rI (cI (ar 0) x y) (hM m fi ar g, z) := by
  rw [b_X5_cell_0]
  simp (disch := omega) only [mgR0, Option.bind_some, va_rf_some, e_at, bI_rI, iI_add, mld0, rI_of]
  (try rfl)
theorem e_edge {x y d : Int} (h1 : -2147483648 ≤ d) (h2 : d ≤ 2147483647) : t_Ev (t_pg G) t_hd Y_X5_edge 0 ([some (.int (iI x)), some (.int (iI y)), some (.int (iI d))], [], hs) = rI (edI x y d) hs := by
  rw [b_X5_edge_0]
  simp (disch := omega) only [iI_inj, e_at, bI_rI, iI_add, rI_of]
  unfold edI
  by_cases c : d = 0
  · rw [if_pos c, if_pos c]
  · rw [if_neg c, if_neg c]
theorem e_isEdge (hD : Dm (ar 0)) {x y d : Int} (h1 : -2147483648 ≤ x) (h2 : x ≤ 2147483647) (h3 : -2147483648 ≤ y) (h4 : y ≤ 2147483647) (h5 : -2147483648 ≤ d) (h6 : d ≤ 2147483647) : t_Ev (t_pg G) t_hd Y_X5_isEdge 0 ([some (.ref m), some (.int (iI x)), some (.int (iI y)), some (.int (iI d))], [], (hM m fi ar g, z)) = rB (isEd (ar 0) x y d) (hM m fi ar g, z) := by
  have hd := hD.1
  have hd2 := hD.2
  rw [b_X5_isEdge_0]
  simp (disch := first | omega | exact hD) only [mK, Option.bind_some, e_isInside, bI_rB, bB_0, iI_inj, iI_add, rI_of, rB_if']
  unfold isEd
  cases hi : inB (ar 0) x y with
  | false => rfl
  | true =>
    have hi := inB_iff.mp hi
    simp (disch := first | omega | exact hD) only [e_isInside, bI_rB, bB_0, rI_of, rB_if', Bool.true_eq_false, if_false, Bool.true_and]
    by_cases c : d = 0
    · rw [if_pos c, if_pos c]
    · rw [if_neg c, if_neg c]
theorem e_isEmpty (hD : Dm (ar 0)) {x y : Int} (h1 : -2147483648 ≤ x) (h2 : x ≤ 2147483647) (h3 : -2147483648 ≤ y) (h4 : y ≤ 2147483647) (hc : ∀ j, 0 ≤ ar 0 j ∧ ar 0 j ≤ 1000000) : t_Ev (t_pg G) t_hd Y_X5_isEmpty 0 ([some (.ref m), some (.int (iI x)), some (.int (iI y))], [], (hM m fi ar g, z)) = rB (inB (ar 0) x y && decide (cI (ar 0) x y = 0)) (hM m fi ar g, z) := by
  have hd := hD.1
  have hd2 := hD.2
  have hb : 0 ≤ cI (ar 0) x y ∧ cI (ar 0) x y ≤ 1000000 := hc _
  rw [b_X5_isEmpty_0]
  simp (disch := first | omega | exact hD) only [mK, Option.bind_some, e_isInside, bI_rB, bB_0]
  cases hi : inB (ar 0) x y with
  | false => rfl
  | true =>
    obtain ⟨⟨i1, i2⟩, i3, i4⟩ := inB_iff.mp hi
    simp (disch := omega) only [e_cell, bI_rI, rI_of, Bool.true_and, Bool.true_eq_false, if_false, iI_inj, rB_dec]
end MC
