/-! ===== regions: the two counts agree ===== -/
theorem sm_split {f : Nat → Int} {a : Nat} : ∀ {b : Nat}, sm f (a + b) = sm f a + sm (fun k => f (a + k)) b := by
  intro b
  induction b with
  | zero => simp [sm]
  | succ b ih => rw [← Nat.add_assoc, sm, sm, ih]; omega
theorem sm_zero {f : Nat → Int} {n : Nat} (h : ∀ k, k < n → f k = 0) : sm f n = 0 := by rw [sm_congr (g := fun _ => 0) h, sm_const]; omega
theorem sm_cut {f : Nat → Int} {n N : Nat} (h : n ≤ N) (hz : ∀ k, n ≤ k → k < N → f k = 0) : sm f N = sm f n := by
  obtain ⟨b, rfl⟩ := Nat.le.dest h
  rw [sm_split, sm_zero (f := fun k => f (n + k)) fun k hk => hz _ (Nat.le_add_right _ _) (by omega), Int.add_zero]
theorem sm_flat {g : Nat → Int} : ∀ {k : Nat}, sm g (8 * k) = sm (fun y => sm (fun x => g (8 * y + x)) 8) k := by
  intro k
  induction k with
  | zero => rfl
  | succ k ih => rw [sm, ← ih, show 8 * (k + 1) = 8 * k + 8 by omega, sm_split]
theorem sm_grid {s : tRow} (hD : Dm s) {f : Nat → Nat → Int} {g : Nat → Int} (h : ∀ x y : Nat, x < 8 → y < 8 → g (8 * y + x) = if (x : Int) < s 0 ∧ (y : Int) < s 1 then f x y else 0) : sm (fun y => sm (fun x => f x y) (s 0).toNat) (s 1).toNat = sm g 64 := by
  have d0 := hD.1
  have d1 := hD.2
  rw [show (64 : Nat) = 8 * 8 from rfl, sm_flat, sm_cut (n := (s 1).toNat) (N := 8) (by omega) fun y h1 h2 => sm_zero fun x hx => by rw [h x y hx h2, if_neg (by omega)]]
  refine sm_congr fun y hy => ?_
  rw [sm_cut (n := (s 0).toNat) (N := 8) (by omega) fun x h1 h2 => by rw [h x y h2 (by omega), if_neg (by omega)]]
  exact sm_congr fun x hx => by rw [h x y (by omega) (by omega), if_pos (by omega)]
theorem emB_in {s : tRow} {x y : Nat} (h : (x : Int) < s 0 ∧ (y : Int) < s 1) : emB s x y = decide (cI s x y = 0) := by
  unfold emB
  rw [inB_iff.mpr (by omega), Bool.true_and]
theorem emB_out {s : tRow} {x y : Nat} (h : ¬ ((x : Int) < s 0 ∧ (y : Int) < s 1)) : emB s x y = false := by
  unfold emB
  rw [show inB s x y = false from Bool.eq_false_iff.mpr fun e => h (by have := inB_iff.mp e; omega), Bool.false_and]
theorem emQ_n {s : tRow} {x y : Nat} (hx : x < 8) (hy : y < 8) : emQ s (8 * y + x) = emB s x y := by
  unfold emQ
  rw [show (8 * y + x) % 8 = x by omega, show (8 * y + x) / 8 = y by omega]
theorem rgN_rk {s : tRow} (hD : Dm s) {L : Nat → Nat} : rgN s L = rk s L 64 := sm_grid hD fun x y hx hy => by
  rw [emQ_n hx hy]
  by_cases c : (x : Int) < s 0 ∧ (y : Int) < s 1
  · rw [if_pos c, emB_in c]
  · rw [if_neg c, emB_out c]; rfl
theorem szA_F {s : tRow} (hD : Dm s) {L : Nat → Nat} (lf : Lf s L) {p : Nat} (hp : emQ s p = true) : szA s L p = szF L p := sm_grid hD fun x y hx hy => by
  have em := lf.em hD (q := 8 * y + x) (by omega)
  rw [emQ_n hx hy] at em
  by_cases c2 : L (8 * y + x) = p
  · rw [c2] at em
    have e := em.mp hp
    have c : (x : Int) < s 0 ∧ (y : Int) < s 1 := by have := emB_b hD e; omega
    rw [if_pos c, ← emB_in c, e, c2]
    rfl
  · rw [decide_eq_false c2, Bool.and_false]
    split <;> rfl
theorem rk_ex {s : tRow} {L : Nat → Nat} {j : Nat} : ∀ {P : Nat}, (j : Int) < rk s L P → ∃ q, q < P ∧ (emQ s q = true ∧ L q = q) ∧ rk s L q = j := by
  intro P
  induction P with
  | zero => intro h; exact absurd h (by show ¬ ((j : Int) < 0); omega)
  | succ P ih =>
    intro h
    by_cases c : emQ s P = true ∧ L P = P
    · rw [rk_s c.1 c.2] at h
      by_cases c2 : (j : Int) < rk s L P
      · obtain ⟨q, h1, h2⟩ := ih c2
        exact ⟨q, Nat.lt_succ_of_lt h1, h2⟩
      · exact ⟨P, Nat.lt_succ_self P, c, by omega⟩
    · rw [rk_n c] at h
      obtain ⟨q, h1, h2⟩ := ih h
      exact ⟨q, Nat.lt_succ_of_lt h1, h2⟩
theorem fd_max {f : Nat → Int} : ∀ {n : Nat} {b : Int}, b ≤ fd (fun k b => max b (f k)) n b ∧ ∀ k, k < n → f k ≤ fd (fun k b => max b (f k)) n b := by
  intro n
  induction n with
  | zero => exact ⟨Int.le_refl _, fun k hk => absurd hk (Nat.not_lt_zero k)⟩
  | succ n ih =>
    intro b
    obtain ⟨h1, h2⟩ := ih (b := b)
    simp only [fd]
    refine ⟨by omega, fun k hk => ?_⟩
    by_cases e : k = n
    · subst e; omega
    · have := h2 k (by omega); omega
theorem fd_max_le {f : Nat → Int} {B : Int} {n : Nat} (h : ∀ k, k < n → f k ≤ B) {b : Int} (hb : b ≤ B) : fd (fun k b => max b (f k)) n b ≤ B := fd_ge (P := fun b => b ≤ B) (fun k hk a ha => by have := h k hk; omega) hb
theorem rgM_ge {s : tRow} {L : Nat → Nat} : 0 ≤ rgM s L ∧ ∀ y, y < (s 1).toNat → ∀ x, x < (s 0).toNat → szB s L x y ≤ rgM s L := by
  unfold rgM
  have : ∀ {n : Nat} {b : Int}, b ≤ fd (fun y b => fd (fun x b => max b (szB s L x y)) (s 0).toNat b) n b ∧ ∀ y, y < n → ∀ x, x < (s 0).toNat → szB s L x y ≤ fd (fun y b => fd (fun x b => max b (szB s L x y)) (s 0).toNat b) n b := by
    intro n
    induction n with
    | zero => exact fun {b} => ⟨Int.le_refl _, fun y hy => absurd hy (Nat.not_lt_zero y)⟩
    | succ n ih =>
      intro b
      obtain ⟨h1, h2⟩ := ih (b := b)
      obtain ⟨m1, m2⟩ := fd_max (f := fun x => szB s L x n) (n := (s 0).toNat) (b := fd (fun y b => fd (fun x b => max b (szB s L x y)) (s 0).toNat b) n b)
      refine ⟨Int.le_trans h1 m1, fun y hy x hx => ?_⟩
      by_cases e : y = n
      · subst e; exact m2 x hx
      · exact Int.le_trans (h2 y (by omega) x hx) m1
  exact this
theorem rgM_le {s : tRow} {L : Nat → Nat} {B : Int} (h0 : 0 ≤ B) (h : ∀ y, y < (s 1).toNat → ∀ x, x < (s 0).toNat → szB s L x y ≤ B) : rgM s L ≤ B := fd_ge (P := fun b => b ≤ B) (fun y hy a ha => fd_max_le (fun x hx => h y hy x hx) ha) h0
/-- the sizes' greatest -/
def mxS (S : Nat → Int) (n : Nat) : Int := fd (fun k b => max b (S k)) n 0
theorem szB_S {s : tRow} (hD : Dm s) {L : Nat → Nat} (lf : Lf s L) {R S : Nat → Int} {c : Int} (I : SI s L 64 R S c) {x y : Int} (h1 : 0 ≤ x ∧ x ≤ 7) (h2 : 0 ≤ y ∧ y ≤ 7) (he : emB s x y = true) : szB s L x y = S (rk s L (L (8 * y + x).toNat)).toNat ∧ 0 ≤ rk s L (L (8 * y + x).toNat) ∧ rk s L (L (8 * y + x).toNat) < c ∧ R (8 * y + x).toNat = rk s L (L (8 * y + x).toNat) := by
  obtain ⟨q, hq⟩ : ∃ q, q = (8 * y + x).toNat := ⟨_, rfl⟩
  have q64 : q < 64 := by omega
  have eq : emQ s q = true := by rw [hq, emQ_at h1 h2]; exact he
  have le := lf.1.1 q q64
  have em := (lf.em hD q64).mpr eq
  have rb := rk_b (s := s) (L := L) (p := L q)
  unfold szB
  rw [← hq, if_pos (emB_iff.mp he).2, szA_F hD lf em, I.i3 (L q) (by omega) em (lf.ll q64) (by omega)]
  refine ⟨rfl, rb.1, ?_, ?_⟩
  · rw [I.i1]; exact rk_lt (by omega) em (lf.ll q64)
  · rw [I.i2 q q64, if_pos ⟨eq, by omega⟩]
theorem mxS_rg {s : tRow} (hD : Dm s) {L : Nat → Nat} (lf : Lf s L) {R S : Nat → Int} {c : Int} (I : SI s L 64 R S c) : mxS S c.toNat = rgM s L := by
  have d0 := hD.1
  have d1 := hD.2
  have i1 := I.i1
  have cb := rk_b (s := s) (L := L) (p := 64)
  obtain ⟨g0, g1⟩ := rgM_ge (s := s) (L := L)
  obtain ⟨m0, m1⟩ := fd_max (f := S) (n := c.toNat) (b := 0)
  refine Int.le_antisymm (fd_max_le (fun j hj => ?_) g0) (rgM_le m0 fun y hy x hx => ?_)
  · obtain ⟨q, h1, ⟨h2, h3⟩, h4⟩ := rk_ex (s := s) (L := L) (j := j) (P := 64) (by omega)
    have eb := emB_b hD (show emB s ((q % 8 : Nat) : Int) ((q / 8 : Nat) : Int) = true from h2)
    have := g1 (q / 8) (by omega) (q % 8) (by omega)
    obtain ⟨e1, -⟩ := szB_S hD lf I (x := ((q % 8 : Nat) : Int)) (y := ((q / 8 : Nat) : Int)) (by omega) (by omega) h2
    rw [e1, show (8 * ((q / 8 : Nat) : Int) + ((q % 8 : Nat) : Int)).toNat = q by omega, h3, h4] at this
    exact this
  · by_cases e : emB s x y = true
    · obtain ⟨e1, e2, e3, -⟩ := szB_S hD lf I (x := x) (y := y) (by omega) (by omega) e
      rw [e1]
      exact m1 _ (by omega)
    · have c0 : cI s x y ≠ 0 := fun z => e (by rw [emB_in (by omega)]; exact decide_eq_true z)
      unfold szB
      rw [if_neg c0]
      exact m0
