/-! ===== the built text as a string ===== -/
theorem kA_at {h : tAH} {a k : Nat} {b : Bool} {x : Nat × ((Nat → Int32) ⊕ (Nat → Int64) ⊕ (Nat → UInt32) ⊕ (Nat → UInt64) ⊕ (Nat → Option Nat))} (hh : h a = some (b, k, .inr x)) : t_kA h (.ref a) k = some a := by simp only [t_kA, hh, if_true]
/-- a word just made: its string at q, made at or behind b, no hash yet -/
def FW (h : tAH) (q n b : Nat) (f : Nat → Int) : Prop := ∃ vq g, h q = some (true, 11, .inl [.ref vq, .int (iI 0), .int (iI 0), .int (iI 0)]) ∧ (b ≤ q ∧ b ≤ vq) ∧ h vq = some (true, 2, .inr (n, .inl g)) ∧ ∀ j, j < n → g j = iI (f j)
theorem FW.st {h : tAH} {q n b : Nat} {f : Nat → Int} (w : FW h q n b f) : ST (fun k => b ≤ k) h q n f := by
  obtain ⟨vq, g, e1, ⟨b1, b2⟩, e2, e3⟩ := w
  exact ⟨b1, true, 0, 0, vq, e1, b2, true, g, e2, e3⟩
section SBT
variable {G : tG} {hs : tHS}
theorem c_cpRange {v S n : Nat} {q : Nat → Int32} {bb : Bool} (hF : Fi hs) (c2 : hs.1 v = some (bb, 2, .inr (S, .inl q))) (hn : n ≤ S) (hS : S ≤ 5000) (ok : ∀ j, j < n → t_okR 2 (q j) = true) : ∃ q', t_Ev (t_pg G) t_hd Y_J15_copyOfRange 0 ([some (.ref v), some (.int (iI 0)), some (.int (iI (n : Int)))], [], hs) = rR (some hs.2.1) (t_al hs (true, 2, .inr (n, .inl q')) n) ∧ ∀ j, j < n → q' j = q j := by
  rw [b_J15_copyOfRange_0, if_pos rfl, aLen_at c2, Option.bind_some, show Int32.ofNat S = iI (S : Int) from rfl]
  simp (disch := omega) only [iI_inj]
  by_cases c : n = S
  · subst c
    have e : clB hs.1 (.ref v) = some (true, 2, .inr (n, .inl q)) := by
      simp only [clB, c2]
      rw [if_pos ⟨trivial, List.all_eq_true.mpr fun j hj => ok j (List.mem_range.mp hj)⟩]
    refine ⟨q, ?_, fun j _ => rfl⟩
    rw [if_pos rfl, e, Option.bind_some, show t_esz ((true, 2, .inr (n, .inl q)) : tEnt) = n from rfl, al_1, kA_at (k := 2) (b := true) (x := (n, .inl q)) t_up_s, Option.bind_some]
    rfl
  · rw [if_neg (by omega)]
    obtain ⟨h1, e1⟩ : ∃ h1, h1 = t_al hs (t_arr0 2 n) n := ⟨_, rfl⟩
    have vb := hF.lt c2
    have d1 : h1.1 v = some (bb, 2, .inr (S, .inl q)) := by rw [e1]; exact (t_up_n (by omega)).trans c2
    have d2 : h1.1 hs.2.1 = some (true, 2, .inr (n, .inl (fun _ => 0))) := by rw [e1]; exact t_up_s
    refine ⟨va_cpy q (fun _ => 0) 0 0 n, ?_, fun j hj => ?_⟩
    · have cb : t_Ev (t_pg G) t_hd Y_J15_copyOfRangeByte 0 ([some (.ref v), some (.int (iI 0)), some (.int (iI (n : Int))), none, none], [], hs) = rR (some hs.2.1) (t_al hs (true, 2, .inr (n, .inl (va_cpy q (fun _ => 0) 0 0 n))) n) := by
        rw [b_J15_copyOfRangeByte_0, b_J15_checkLength_0]
        simp (disch := omega) only [iI_lt]
        rw [if_neg (by omega)]
        simp only [rV_of, bV_rV, iI_sub, Int.sub_zero]
        simp (disch := omega) only [iI_le]
        rw [if_pos (by omega), iI_clamp (by omega) (by omega), Int.toNat_natCast, ← e1, aLen_at d1, Option.bind_some, show Int32.ofNat S = iI (S : Int) from rfl, show iI (S : Int) - iI 0 = iI (S : Int) by rw [iI_sub, Int.sub_zero], e_min (by omega) (by omega) (by omega) (by omega), bI_rI, show min (S : Int) (n : Int) = n by omega]
        have := cpA_at (n := (n : Int)) (z1 := 0) (z2 := 0) d1 d2 (by decide) (by decide) (by omega) (by omega) (by omega) (by omega) (by omega) (Or.inr ⟨by decide, fun j hj => by
          rw [show (Int.toNat 0 + j) = j by omega]
          exact ok j (by omega)⟩)
        rw [this, Option.bind_some, e1]
        unfold t_al
        try dsimp only
        rw [t_up_up]
        rfl
      rw [bR_ex cb]
      rfl
    · unfold va_cpy
      rw [if_pos (by omega)]
      exact congrArg q (by omega)
theorem c_sbStr {b v S n : Nat} {f : Nat → Int} (hF : Fi hs) (B : SB hs.1 b v S n f) (hn : n ≤ 2000) : ∃ hs', t_Ev (t_pg G) t_hd Y_J13_toString 0 ([some (.ref b)], [], hs) = rR (some hs.2.1) hs' ∧ FW hs'.1 hs.2.1 n hs.2.1 f ∧ Ex 2 (4 + n) hs hs' := by
  obtain ⟨q, c2, c3⟩ := B.c2
  have ns := B.ns
  have sz := B.sz
  have bl := hF.lt B.c1
  have vl := hF.lt c2
  obtain ⟨h1, e1⟩ : ∃ h1, h1 = t_al hs (true, 11, .inl [.null, .int (iI 0), .int (iI 0), .int (iI 0)]) 4 := ⟨_, rfl⟩
  have x1 : Ex 1 4 hs h1 := by rw [e1]; exact Ex.al hF
  have z1 : h1.2.1 = hs.2.1 + 1 := by rw [e1]; rfl
  have d0 : h1.1 hs.2.1 = some (true, 11, .inl [.null, .int (iI 0), .int (iI 0), .int (iI 0)]) := by rw [e1]; exact t_up_s
  have d1 : h1.1 b = some (true, 10, .inl [.ref v, .int (iI 0), .int (iI 0), .int (iI n)]) := by rw [e1]; exact (t_up_n (by omega)).trans B.c1
  obtain ⟨h2, e2⟩ : ∃ h2 : tHS, h2 = (t_up h1.1 hs.2.1 (true, 11, .inl [.null, .int (iI 0), .int (iI 0), .int (iI 0)]), h1.2) := ⟨_, rfl⟩
  have x2 : Ex 1 4 hs h2 := by rw [e2]; exact x1.up d0 (Nat.le_refl _)
  have z2 : h2.2.1 = hs.2.1 + 1 := by rw [e2]; exact z1
  have d2 : h2.1 v = some (true, 2, .inr (S, .inl q)) := by rw [e2, e1]; exact (t_up_n (by omega)).trans ((t_up_n (by omega)).trans c2)
  have d3 : h2.1 hs.2.1 = some (true, 11, .inl [.null, .int (iI 0), .int (iI 0), .int (iI 0)]) := by rw [e2]; exact t_up_s
  obtain ⟨q', e3, q3⟩ := c_cpRange (G := G) (n := n) x2.2.2.2 d2 ns (by omega) (fun j hj => by rw [c3 j hj]; have := B.lt j hj; exact (okR2 this.1 this.2).1)
  rw [z2] at e3
  have x3 : Ex 2 (4 + n) hs (t_al h2 (true, 2, .inr (n, .inl q')) n) := x2.trans (Ex.al (e := (true, 2, .inr (n, .inl q'))) (n := n) x2.2.2.2)
  have d4 : (t_al h2 (true, 2, .inr (n, .inl q')) n).1 hs.2.1 = some (true, 11, .inl [.null, .int (iI 0), .int (iI 0), .int (iI 0)]) := (t_up_n (by omega)).trans d3
  have x4 := x3.up (e := (true, 11, .inl [.ref (hs.2.1 + 1), .int (iI 0), .int (iI 0), .int (iI 0)])) d4 (Nat.le_refl _)
  refine ⟨_, ?_, ⟨hs.2.1 + 1, q', t_up_s, ⟨Nat.le_refl _, Nat.le_succ _⟩, ?_, fun j hj => (q3 j hj).trans (c3 j hj)⟩, x4⟩
  · rw [b_J13_toString_0, ← e1, b_J3_init_0, b_J3_init_2_0, kN_at d1, Option.bind_some, b_J12_getValue_0, gfR_at (k := 0) (q := v) d1 rfl, Option.bind_some]
    rw [va_rf_some, rR_some, bR_ex rfl, kN_at d1, Option.bind_some, b_J13_length_0, kN_at d1, Option.bind_some, b_J12_length_0, gfI_at (k := 3) (x := iI (n : Int)) d1 rfl, Option.bind_some]
    simp only [rI_of, bI_rI]
    rw [kN_at d1, Option.bind_some, b_J12_isLatin1_0, gfI_at (k := 1) (x := iI 0) d1 rfl, Option.bind_some, if_pos rfl]
    simp only [rI_of, bI_rI]
    rw [if_neg (by decide), pf_at d0 (Nat.le_of_ble_eq_true rfl), Option.bind_some, va_rf_some]
    rw [show ([.null, .int (iI 0), .int (iI 0), .int (iI 0)] : List Value).set 1 (.int (iI 0)) = [.null, .int (iI 0), .int (iI 0), .int (iI 0)] from rfl, ← e2, bR_ex e3, va_rf_some, pf_at d4 (Nat.le_of_ble_eq_true rfl), Option.bind_some]
    rfl
  · exact (t_up_n (by omega)).trans ((congrFun (congrArg (fun k => t_up h2.1 k (true, 2, .inr (n, .inl q'))) z2) _).trans t_up_s)
end SBT
