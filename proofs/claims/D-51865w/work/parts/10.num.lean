/-! ===== numbers ===== -/
theorem iI_toInt {z : Int} (h1 : -2147483648 ≤ z) (h2 : z ≤ 2147483647) : (iI z).toInt = z := by
  unfold iI
  rw [Int32.toInt_ofInt, Int.bmod_def, show Int32.size = 4294967296 from rfl]
  omega
theorem iI_self (x : Int32) : iI x.toInt = x := by
  unfold iI
  exact Int32.ofInt_toInt x
theorem i32_lo (x : Int32) : -2147483648 ≤ x.toInt := Int32.le_toInt x
theorem i32_hi (x : Int32) : x.toInt ≤ 2147483647 := by
  have := Int32.toInt_lt x
  omega
theorem iI_add (a b : Int) : iI a + iI b = iI (a + b) := (Int32.ofInt_add a b).symm
theorem iI_sub (a b : Int) : iI a - iI b = iI (a - b) := (Int32.ofInt_sub a b).symm
theorem iI_mul (a b : Int) : iI a * iI b = iI (a * b) := (Int32.ofInt_mul a b).symm
theorem iI_neg (a : Int) : -iI a = iI (-a) := (Int32.ofInt_neg a).symm
theorem iI_lt {a b : Int} (h1 : -2147483648 ≤ a) (h2 : a ≤ 2147483647) (h3 : -2147483648 ≤ b) (h4 : b ≤ 2147483647) : (iI a < iI b) = (a < b) := by
  rw [Int32.lt_iff_toInt_lt, iI_toInt h1 h2, iI_toInt h3 h4]
theorem iI_le {a b : Int} (h1 : -2147483648 ≤ a) (h2 : a ≤ 2147483647) (h3 : -2147483648 ≤ b) (h4 : b ≤ 2147483647) : (iI a ≤ iI b) = (a ≤ b) := by
  rw [Int32.le_iff_toInt_le, iI_toInt h1 h2, iI_toInt h3 h4]
theorem iI_inj {a b : Int} (h1 : -2147483648 ≤ a) (h2 : a ≤ 2147483647) (h3 : -2147483648 ≤ b) (h4 : b ≤ 2147483647) : (iI a = iI b) = (a = b) := by
  rw [← Int32.toInt_inj, iI_toInt h1 h2, iI_toInt h3 h4]
theorem iI_clamp {z : Int} (h1 : 0 ≤ z) (h2 : z ≤ 2147483647) : (iI z).toNatClampNeg = z.toNat := by
  have h : (iI z).toNatClampNeg = (iI z).toInt.toNat := rfl
  rw [h, iI_toInt (by omega) h2]
theorem t_in_iI {z : Int} {n : Nat} (h1 : 0 ≤ z) (h2 : z < n) (h3 : n ≤ 2147483647) : t_in (iI z) n = true := by
  unfold t_in
  have e1 : iI 0 ≤ iI z := by rw [iI_le (by omega) (by omega) (by omega) (by omega)]; exact h1
  have e2 : (iI z).toNatClampNeg < n := by rw [iI_clamp h1 (by omega)]; omega
  simp [e1, e2]
/-- a truth value as an int -/
def bI (p : Prop) [Decidable p] : Int := if p then 1 else 0
theorem bI_0 {p : Prop} [Decidable p] : (iI (bI p) = iI 0) = ¬ p := by
  unfold bI
  by_cases h : p
  · simp [h]; decide
  · simp [h]
theorem bI_ok {p : Prop} [Decidable p] : t_okR 1 (iI (bI p)) = true := by
  unfold bI
  by_cases h : p
  · simp [h]; decide
  · simp [h]; decide
theorem bI_t {p : Prop} [Decidable p] (h : p) : bI p = 1 := if_pos h
theorem bI_f {p : Prop} [Decidable p] (h : ¬ p) : bI p = 0 := if_neg h
theorem va_rf_some (a : Nat) : va_rf (some a) = .ref a := rfl
theorem va_rf_none : va_rf none = .null := rfl
/-! reading and writing a heap where a cell is known -/
section AT
variable {h : tAH} {a : Nat} {b : Bool}
theorem gfI_at {c k : Nat} {fs : List Value} {x : Int32} (hh : h a = some (b, c, .inl fs)) (hk : fs[k]? = some (.int x)) : gfI h (.ref a) c k = some x := by
  simp only [gfI, hh, hk, if_true]
theorem gfR_at {c k q : Nat} {fs : List Value} (hh : h a = some (b, c, .inl fs)) (hk : fs[k]? = some (.ref q)) : gfR h (.ref a) c k = some (some q) := by
  simp only [gfR, hh, hk, if_true]
theorem gfR_at0 {c k : Nat} {fs : List Value} (hh : h a = some (b, c, .inl fs)) (hk : fs[k]? = some .null) : gfR h (.ref a) c k = some none := by
  simp only [gfR, hh, hk, if_true]
theorem pf_at {c k : Nat} {fs : List Value} {v : Value} (hh : h a = some (true, c, .inl fs)) (hk : k < fs.length) : pfV h (.ref a) c k v = some (t_up h a (true, c, .inl (fs.set k v))) := by
  simp only [pfV, hh, hk, if_true]
theorem kN_at {c : Nat} {fs : List Value} (hh : h a = some (b, c, .inl fs)) : t_kN h (.ref a) c = some a := by
  simp only [t_kN, hh, if_true]
theorem ldI_at {kd n k1 k2 : Nat} {f : Nat → Int32} {z : Int} (hh : h a = some (b, kd, .inr (n, .inl f))) (hk : kd = k1 ∨ kd = k2) (h0 : 0 ≤ z) (h1 : z < n) (h3 : n ≤ 2147483647) : ldI h (.ref a) (iI z) k1 k2 = some (f z.toNat) := by
  simp only [ldI, hh]
  rw [if_pos ⟨hk, t_in_iI h0 h1 h3⟩, iI_clamp h0 (by omega)]
theorem stI_at {kd n k1 k2 : Nat} {f : Nat → Int32} {z : Int} {x : Int32} (hh : h a = some (true, kd, .inr (n, .inl f))) (hk : kd = k1 ∨ kd = k2) (h0 : 0 ≤ z) (h1 : z < n) (h3 : n ≤ 2147483647) : stI h (.ref a) (iI z) k1 k2 x = some (t_up h a (true, kd, .inr (n, .inl (upd f z.toNat (t_nar kd x))))) := by
  simp only [stI, hh]
  rw [if_pos ⟨hk, t_in_iI h0 h1 h3⟩, iI_clamp h0 (by omega)]
theorem ldR_at {kd n : Nat} {f : Nat → Option Nat} {z : Int} (hh : h a = some (b, kd, .inr (n, .inr (.inr (.inr (.inr f)))))) (hk : 4 ≤ kd) (h0 : 0 ≤ z) (h1 : z < n) (h3 : n ≤ 2147483647) : ldR h (.ref a) (iI z) = some (f z.toNat) := by
  simp only [ldR, hh]
  rw [if_pos ⟨hk, t_in_iI h0 h1 h3⟩, iI_clamp h0 (by omega)]
theorem aLen_at {kd n : Nat} {x : (Nat → Int32) ⊕ (Nat → Int64) ⊕ (Nat → UInt32) ⊕ (Nat → UInt64) ⊕ (Nat → Option Nat)} (hh : h a = some (b, kd, .inr (n, x))) : aLen h (.ref a) = some (Int32.ofNat n) := by
  simp only [aLen, hh]
end AT
