/-! ===== strings compared; their hash ===== -/
/-- the hash of n letters -/
def hI (f : Nat → Int) : Nat → Int
  | 0 => 0
  | n + 1 => 31 * hI f n + f n
theorem hI_cg {f f' : Nat → Int} {n : Nat} (h : ∀ j, j < n → f j = f' j) : hI f n = hI f' n := by
  induction n with
  | zero => rfl
  | succ n ih => rw [hI, hI, ih fun j hj => h j (by omega), h n (by omega)]
theorem and255 {v : Int} (h0 : 0 ≤ v) (h1 : v ≤ 127) : iI v &&& iI 255 = iI v := by
  have : ∀ k : Nat, k < 128 → iI (k : Int) &&& iI 255 = iI (k : Int) := by decide +kernel
  have := this v.toNat (by omega)
  rw [Int.toNat_of_nonneg h0] at this
  exact this
section SQ
variable {G : tG} {D D' : Nat → Prop} {hs : tHS}
theorem c_s4Hash {vq n : Nat} {b' : Bool} {g : Nat → Int32} {f : Nat → Int} (e2 : hs.1 vq = some (b', 2, .inr (n, .inl g))) (e3 : ∀ j, j < n → g j = iI (f j)) (hf : ∀ j, j < n → 0 ≤ f j ∧ f j ≤ 127) (hn : n ≤ 2000) : t_Ev (t_pg G) t_hd Y_J4_hashCode 0 ([some (.ref vq)], [], hs) = rI (hI f n) hs := by
  rw [b_J4_hashCode_0, aLen_at e2, Option.bind_some, show Int32.ofNat n = iI (n : Int) from rfl]
  simp (disch := omega) only [iI_inj]
  by_cases c0 : n = 0
  · rw [if_pos (by omega), c0]; rfl
  · rw [if_neg (by omega)]
    by_cases c1 : n = 1
    · have h0 := hf 0 (by omega)
      rw [if_pos (by omega), ldI_at (z := 0) e2 (Or.inr rfl) (by decide) (by omega) (by omega), Option.bind_some, show Int.toNat 0 = 0 from rfl, e3 0 (by omega), and255 h0.1 h0.2, c1]
      have : hI f 1 = f 0 := by rw [hI, hI]; omega
      rw [this]
      rfl
    · rw [if_neg (by omega), Option.bind_some, b_J14_vectorizedHashCode_0, if_pos rfl, kA_at e2, Option.bind_some]
      have lo : t_Ev (t_pg G) t_hd Y_J14_signedHashCode 0 ([some (.int (iI 0)), some (.ref vq), some (.int (iI 0)), some (.int (iI (n : Int))), none, none], [], hs) = rI (hI f n) hs := by
        rw [b_J14_signedHashCode_0, show iI 0 + iI (n : Int) = iI (n : Int) by rw [iI_add, Int.zero_add]]
        have := lp_up (N := n) (F := fun k => t_Ev (t_pg G) t_hd Y_J14_signedHashCode 8 ([some (.int (iI (hI f k))), some (.ref vq), some (.int (iI 0)), some (.int (iI (n : Int))), some (.int (iI (n : Int))), some (.int (iI (k : Int)))], [], hs)) fun k hk => by
          have h0 := hf k hk
          rw [b_J14_signedHashCode_8]
          simp (disch := omega) only [iI_lt]
          rw [if_pos (by omega), ldI_at e2 (Or.inr rfl) (by omega) (by omega) (by omega), Option.bind_some, Int.toNat_natCast, e3 k hk, and255 h0.1 h0.2]
          simp only [iI_mul, iI_add]
          (try rfl)
        refine Eq.trans this ?_
        try dsimp only
        rw [b_J14_signedHashCode_8]
        simp (disch := omega) only [iI_lt]
        rw [if_neg (by omega)]
        rfl
      rw [lo, bI_rI]
      simp only [rI_of, bI_rI]
theorem c_sHash {q vq n : Nat} {b' : Bool} {g : Nat → Int32} {f : Nat → Int} (e1 : hs.1 q = some (true, 11, .inl [.ref vq, .int (iI 0), .int (iI 0), .int (iI 0)])) (e2 : hs.1 vq = some (b', 2, .inr (n, .inl g))) (e3 : ∀ j, j < n → g j = iI (f j)) (hf : ∀ j, j < n → 0 ≤ f j ∧ f j ≤ 127) (hn : n ≤ 2000) : ∃ hv hz, t_Ev (t_pg G) t_hd Y_J3_hashCode 0 ([some (.ref q), none], [], hs) = rI (hI f n) (t_up hs.1 q (true, 11, .inl [.ref vq, .int (iI 0), .int hv, .int hz]), hs.2) := by
  rw [b_J3_hashCode_0, gfI_at (k := 2) (x := iI 0) e1 rfl, Option.bind_some, if_pos rfl, gfI_at (k := 3) (x := iI 0) e1 rfl, Option.bind_some, if_pos rfl, kN_at e1, Option.bind_some, b_J3_isLatin1_0, gfI_at (k := 1) (x := iI 0) e1 rfl, Option.bind_some, if_pos rfl]
  simp only [rI_of, bI_rI]
  rw [if_neg (by decide), gfR_at (k := 0) (q := vq) e1 rfl, Option.bind_some, va_rf_some, c_s4Hash e2 e3 hf hn, bI_rI]
  by_cases c : iI (hI f n) = iI 0
  · rw [if_pos c, pf_at e1 (Nat.le_of_ble_eq_true rfl), Option.bind_some]
    exact ⟨_, _, rfl⟩
  · rw [if_neg c, pf_at e1 (Nat.le_of_ble_eq_true rfl), Option.bind_some]
    exact ⟨_, _, rfl⟩
theorem c_sEq {a b n n' : Nat} {f f' : Nat → Int} (A : ST D hs.1 a n f) (B : ST D' hs.1 b n' f') (hn : n ≤ 2000) (hn' : n' ≤ 2000) (ha : ∀ j, j < n → 0 ≤ f j ∧ f j ≤ 127) (hb : ∀ j, j < n' → 0 ≤ f' j ∧ f' j ≤ 127) : t_Ev (t_pg G) t_hd Y_J3_equals 0 ([some (.ref a), some (.ref b), none], [], hs) = rB (decide (n = n') && al (fun j => decide (f j = f' j)) n) hs := by
  obtain ⟨-, b1, hv, hz, vq, e1, -, b2, g, e2, e3⟩ := A
  obtain ⟨-, b1', hv', hz', vq', e1', -, b2', g', e2', e3'⟩ := B
  rw [b_J3_equals_0]
  by_cases c : a = b
  · subst c
    have w := Option.some.inj (e1.symm.trans e1')
    simp only [Prod.mk.injEq, Sum.inl.injEq, List.cons.injEq, Value.ref.injEq] at w
    obtain ⟨-, -, w, -⟩ := w
    rw [← w, e2] at e2'
    have w2 := Option.some.inj e2'
    simp only [Prod.mk.injEq, Sum.inr.injEq, Sum.inl.injEq] at w2
    obtain ⟨-, -, w3, w4⟩ := w2
    subst w3 w4
    have t : (decide (n = n) && al (fun j => decide (f j = f' j)) n) = true := by
      rw [decide_eq_true rfl, Bool.true_and]
      refine al_iff.mpr fun k hk => decide_eq_true ?_
      have h1 := e3 k hk
      rw [e3' k hk] at h1
      have h2 := ha k hk
      have h3 := hb k hk
      rw [iI_inj (by omega) (by omega) (by omega) (by omega)] at h1
      exact h1.symm
    rw [if_pos rfl, t]
    rfl
  · rw [if_neg c, kN_at e1', Option.bind_some, isK_at e1', Option.bind_some, gfI_at (k := 1) (x := iI 0) e1 rfl, Option.bind_some, va_rf_some, gfI_at (k := 1) (x := iI 0) e1' rfl, Option.bind_some, if_pos rfl, gfR_at (k := 0) (q := vq) e1 rfl, Option.bind_some, gfR_at (k := 0) (q := vq') e1' rfl, Option.bind_some, va_rf_some, va_rf_some]
    have core : t_Ev (t_pg G) t_hd Y_J4_equals 0 ([some (.ref vq), some (.ref vq'), none], [], hs) = rB (decide (n = n') && al (fun j => decide (f j = f' j)) n) hs := by
      rw [b_J4_equals_0, aLen_at e2, Option.bind_some, aLen_at e2', Option.bind_some, show Int32.ofNat n = iI (n : Int) from rfl, show Int32.ofNat n' = iI (n' : Int) from rfl]
      simp (disch := omega) only [iI_inj]
      by_cases d : n = n'
      · subst d
        rw [if_pos rfl, decide_eq_true rfl, Bool.true_and]
        refine (lp_all (N := n) (p := fun j => decide (f j = f' j)) (F := fun j => t_Ev (t_pg G) t_hd Y_J4_equals 9 ([some (.ref vq), some (.ref vq'), some (.int (iI (j : Int)))], [], hs)) (r := rB false hs) fun j hj => ?_).trans ?_
        · have h2 := ha j hj
          have h3 := hb j hj
          rw [b_J4_equals_9, aLen_at e2, Option.bind_some, show Int32.ofNat n = iI (n : Int) from rfl]
          simp (disch := omega) only [iI_lt]
          rw [if_pos (by omega), ldI_at e2 (Or.inr rfl) (by omega) (by omega) (by omega), Option.bind_some, ldI_at e2' (Or.inr rfl) (by omega) (by omega) (by omega), Option.bind_some, Int.toNat_natCast, e3 j hj, e3' j hj]
          simp (disch := omega) only [iI_inj]
          by_cases z : f j = f' j
          · rw [if_pos z, if_pos (decide_eq_true z), show iI (j : Int) + iI 1 = iI ((j : Int) + 1) from iI_add _ _]; rfl
          · rw [if_neg z, if_neg (by rw [decide_eq_false z]; decide)]; rfl
        · cases al (fun j => decide (f j = f' j)) n with
          | true =>
            rw [if_pos rfl, b_J4_equals_9, aLen_at e2, Option.bind_some, show Int32.ofNat n = iI (n : Int) from rfl]
            simp (disch := omega) only [iI_lt]
            rw [if_neg (by omega)]
            rfl
          | false => rfl
      · rw [if_neg (by omega), decide_eq_false d]; rfl
    rw [core, bI_rB]
    cases (decide (n = n') && al (fun j => decide (f j = f' j)) n) <;> rfl
end SQ
