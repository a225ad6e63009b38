/-! ===== loops, counts, truth values ===== -/
theorem lp_from {β : Type} {F : Nat → β} {a N : Nat} (hle : a ≤ N) (h : ∀ k, a ≤ k → k < N → F k = F (k + 1)) : F a = F N := by
  induction hle with
  | refl => rfl
  | @step n hn ih => exact (ih fun k h1 h2 => h k h1 (Nat.lt_succ_of_lt h2)).trans (h n hn (Nat.lt_succ_self n))
theorem lp_up {β : Type} {F : Nat → β} {N : Nat} (h : ∀ k, k < N → F k = F (k + 1)) : F 0 = F N := lp_from (Nat.zero_le N) fun k _ => h k
/-- whether one of the first n has it -/
def an (p : Nat → Bool) : Nat → Bool
  | 0 => false
  | n + 1 => an p n || p n
/-- the sum of the first n -/
def sm (f : Nat → Int) : Nat → Int
  | 0 => 0
  | n + 1 => sm f n + f n
theorem an_iff {p : Nat → Bool} : ∀ {n : Nat}, an p n = true ↔ ∃ k, k < n ∧ p k = true := by
  intro n
  induction n with
  | zero => exact ⟨(fun h => nomatch h), fun ⟨k, h, _⟩ => absurd h (Nat.not_lt_zero k)⟩
  | succ n ih =>
    rw [an, Bool.or_eq_true, ih]
    constructor
    · rintro (⟨k, h1, h2⟩ | h)
      · exact ⟨k, Nat.lt_succ_of_lt h1, h2⟩
      · exact ⟨n, Nat.lt_succ_self n, h⟩
    · rintro ⟨k, h1, h2⟩
      rcases Nat.lt_succ_iff_lt_or_eq.mp h1 with h | rfl
      · exact Or.inl ⟨k, h, h2⟩
      · exact Or.inr h2
theorem an_false {p : Nat → Bool} {n : Nat} : an p n = false ↔ ∀ k, k < n → p k = false := by
  rw [← Bool.not_eq_true, an_iff]
  constructor
  · intro h k hk
    cases hp : p k with
    | false => rfl
    | true => exact absurd ⟨k, hk, hp⟩ h
  · rintro h ⟨k, hk, hp⟩
    rw [h k hk] at hp; cases hp
theorem an_congr {p q : Nat → Bool} {n : Nat} (h : ∀ k, k < n → p k = q k) : an p n = an q n := by
  induction n with
  | zero => rfl
  | succ n ih => rw [an, an, ih fun k hk => h k (Nat.lt_succ_of_lt hk), h n (Nat.lt_succ_self n)]
theorem sm_congr {f g : Nat → Int} {n : Nat} (h : ∀ k, k < n → f k = g k) : sm f n = sm g n := by
  induction n with
  | zero => rfl
  | succ n ih => rw [sm, sm, ih fun k hk => h k (Nat.lt_succ_of_lt hk), h n (Nat.lt_succ_self n)]
theorem sm_le {f : Nat → Int} {c : Int} {n : Nat} (h : ∀ k, k < n → f k ≤ c) : sm f n ≤ n * c := by
  induction n with
  | zero => simp [sm]
  | succ n ih =>
    have h1 := ih fun k hk => h k (Nat.lt_succ_of_lt hk)
    have h2 := h n (Nat.lt_succ_self n)
    rw [sm, Int.natCast_add, Int.add_mul]
    omega
theorem sm_ge {f : Nat → Int} {n : Nat} (h : ∀ k, k < n → 0 ≤ f k) : 0 ≤ sm f n := by
  induction n with
  | zero => exact Int.le_refl 0
  | succ n ih =>
    have h1 := ih fun k hk => h k (Nat.lt_succ_of_lt hk)
    have h2 := h n (Nat.lt_succ_self n)
    rw [sm]
    omega
theorem lp_any {β : Type} {F : Nat → β} {p : Nat → Bool} {r : β} {N : Nat} (h : ∀ k, k < N → F k = if p k = true then r else F (k + 1)) : F 0 = if an p N = true then r else F N := by
  induction N with
  | zero => rfl
  | succ n ih =>
    rw [ih fun k hk => h k (Nat.lt_succ_of_lt hk), an]
    cases h1 : an p n with
    | true => simp
    | false => rw [h n (Nat.lt_succ_self n)]; simp
/-- a truth value as an int -/
def bB (b : Bool) : Int := if b = true then 1 else 0
theorem bB_t : bB true = 1 := rfl
theorem bB_f : bB false = 0 := rfl
theorem bB_0 {b : Bool} : (iI (bB b) = iI 0) = (b = false) := by cases b <;> simp [bB] <;> decide
theorem bB_1 {b : Bool} : (iI (bB b) = iI 1) = (b = true) := by cases b <;> simp [bB] <;> decide
theorem bB_ok {b : Bool} : t_okR 1 (iI (bB b)) = true := by cases b <;> decide
theorem bB_ge {b : Bool} : 0 ≤ bB b := by cases b <;> decide
theorem bB_le {b : Bool} : bB b ≤ 1 := by cases b <;> decide
/-- an answer: an int -/
def rI (z : Int) (hs : tHS) : Option tRS := some (.inl (some (.int (iI z))), hs)
def rB (b : Bool) (hs : tHS) : Option tRS := rI (bB b) hs
def rV (hs : tHS) : Option tRS := some (.inl none, hs)
theorem bI_rI {K : Int32 → tHS → Option tRS} {X : Nat → tHS → Option tRS} {hs : tHS} {z : Int} : bndI (rI z hs) K X = K (iI z) hs := rfl
theorem bI_rB {K : Int32 → tHS → Option tRS} {X : Nat → tHS → Option tRS} {hs : tHS} {b : Bool} : bndI (rB b hs) K X = K (iI (bB b)) hs := rfl
theorem bV_rV {K : tHS → Option tRS} {X : Nat → tHS → Option tRS} {hs : tHS} : bndV (rV hs) K X = K hs := rfl
theorem rI_of {z : Int} {hs : tHS} : (some (.inl (some (.int (iI z))), hs) : Option tRS) = rI z hs := rfl
theorem rV_of {hs : tHS} : (some (.inl none, hs) : Option tRS) = rV hs := rfl
/-- a truth value answered by branching -/
theorem rB_if {b : Bool} {hs : tHS} : (if b = true then rI 1 hs else rI 0 hs) = rB b hs := by cases b <;> rfl
theorem rB_if' {b : Bool} {hs : tHS} : (if b = false then rI 0 hs else rI 1 hs) = rB b hs := by cases b <;> rfl
/-! the small ones of the library -/
section SJ
variable {G : tG} {hs : tHS}
theorem e_min {a b : Int} (h1 : -2147483648 ≤ a) (h2 : a ≤ 2147483647) (h3 : -2147483648 ≤ b) (h4 : b ≤ 2147483647) : t_Ev (t_pg G) t_hd Y_J7_min 0 ([some (.int (iI a)), some (.int (iI b))], [], hs) = rI (min a b) hs := by
  rw [b_J7_min_0]
  simp only [iI_lt h3 h4 h1 h2]
  by_cases h : b < a
  · rw [if_pos h, Int.min_eq_right (by omega)]; rfl
  · rw [if_neg h, Int.min_eq_left (by omega)]; rfl
theorem e_max {a b : Int} (h1 : -2147483648 ≤ a) (h2 : a ≤ 2147483647) (h3 : -2147483648 ≤ b) (h4 : b ≤ 2147483647) : t_Ev (t_pg G) t_hd Y_J7_max 0 ([some (.int (iI a)), some (.int (iI b))], [], hs) = rI (max a b) hs := by
  rw [b_J7_max_0]
  simp only [iI_lt h1 h2 h3 h4]
  by_cases h : a < b
  · rw [if_pos h, Int.max_eq_right (by omega)]; rfl
  · rw [if_neg h, Int.max_eq_left (by omega)]; rfl
/-- the absolute value -/
def aI (a : Int) : Int := if a < 0 then -a else a
theorem e_abs {a : Int} (h1 : -2147483648 ≤ a) (h2 : a ≤ 2147483647) : t_Ev (t_pg G) t_hd Y_J7_abs 0 ([some (.int (iI a))], [], hs) = rI (aI a) hs := by
  rw [b_J7_abs_0]
  simp only [iI_lt h1 h2 (b := 0) (by omega) (by omega), iI_neg]
  unfold aI
  by_cases h : a < 0
  · rw [if_pos h, if_pos h]; rfl
  · rw [if_neg h, if_neg h]; rfl
end SJ
