/-! ===== a text built letter by letter ===== -/
/-- the builder at b, its letters' array v of S places, n letters f -/
abbrev SB (h : tAH) (b v S n : Nat) (f : Nat → Int) : Prop := (h b = some (true, 10, .inl [.ref v, .int (iI 0), .int (iI 0), .int (iI n)])) ∧ (∃ q, h v = some (true, 2, .inr (S, .inl q)) ∧ ∀ j, j < n → q j = iI (f j)) ∧ (n ≤ S) ∧ (S ≤ 16 + 2 * n) ∧ (∀ j, j < n → 0 ≤ f j ∧ f j ≤ 127)
theorem SB.c1 {h : tAH} {b v S n : Nat} {f : Nat → Int} (zz : SB h b v S n f) : h b = some (true, 10, .inl [.ref v, .int (iI 0), .int (iI 0), .int (iI n)]) := zz.1
theorem SB.c2 {h : tAH} {b v S n : Nat} {f : Nat → Int} (zz : SB h b v S n f) : ∃ q, h v = some (true, 2, .inr (S, .inl q)) ∧ ∀ j, j < n → q j = iI (f j) := zz.2.1
theorem SB.ns {h : tAH} {b v S n : Nat} {f : Nat → Int} (zz : SB h b v S n f) : n ≤ S := zz.2.2.1
theorem SB.sz {h : tAH} {b v S n : Nat} {f : Nat → Int} (zz : SB h b v S n f) : S ≤ 16 + 2 * n := zz.2.2.2.1
theorem SB.lt {h : tAH} {b v S n : Nat} {f : Nat → Int} (zz : SB h b v S n f) : ∀ j, j < n → 0 ≤ f j ∧ f j ≤ 127 := zz.2.2.2.2
theorem sl0 (x : Int32) : x <<< (iI 0 &&& 31) = x := by
  rw [show (iI 0 &&& 31 : Int32) = 0 from by decide, Int32.shiftLeft_zero]
theorem okR2 {v : Int} (h0 : 0 ≤ v) (h1 : v ≤ 127) : t_okR 2 (iI v) = true ∧ (iI v).toInt8.toInt32 = iI v := by
  have : ∀ k : Nat, k < 128 → t_okR 2 (iI (k : Int)) = true ∧ (iI (k : Int)).toInt8.toInt32 = iI (k : Int) := by decide +kernel
  have := this v.toNat (by omega)
  rw [Int.toNat_of_nonneg h0] at this
  exact this
section SBS
variable {G : tG} {D : Nat → Prop} {hs : tHS}
/-- a new builder -/
theorem c_sbNew (hF : Fi hs) (f : Nat → Int) : ∃ hs', t_Ev (t_pg G) t_hd Y_J13_init 0 ([some (.ref hs.2.1)], [], t_al hs (true, 10, .inl [.null, .int (iI 0), .int (iI 0), .int (iI 0)]) 4) = rV hs' ∧ SB hs'.1 hs.2.1 (hs.2.1 + 1) 16 0 f ∧ Ex 2 20 hs hs' := by
  obtain ⟨h1, e1⟩ : ∃ h1, h1 = t_al hs (true, 10, .inl [.null, .int (iI 0), .int (iI 0), .int (iI 0)]) 4 := ⟨_, rfl⟩
  have x1 : Ex 1 4 hs h1 := by rw [e1]; exact Ex.al hF
  have c1 : h1.1 hs.2.1 = some (true, 10, .inl [.null, .int (iI 0), .int (iI 0), .int (iI 0)]) := by rw [e1]; exact t_up_s
  have z1 : h1.2.1 = hs.2.1 + 1 := by rw [e1]; rfl
  obtain ⟨h2, e2⟩ : ∃ h2, h2 = t_al h1 (t_arr0 2 16) 16 := ⟨_, rfl⟩
  have x2 : Ex 2 20 hs h2 := by rw [e2]; exact x1.trans (Ex.al x1.fi)
  have c2 : h2.1 hs.2.1 = some (true, 10, .inl [.null, .int (iI 0), .int (iI 0), .int (iI 0)]) := by rw [e2]; exact (t_up_n (by omega)).trans c1
  have v2 : h2.1 (hs.2.1 + 1) = some (true, 2, .inr (16, .inl (fun _ => 0))) := by rw [e2, al_1, z1]; exact t_up_s
  refine ⟨(t_up (t_up h2.1 hs.2.1 (true, 10, .inl [.ref (hs.2.1 + 1), .int (iI 0), .int (iI 0), .int (iI 0)])) hs.2.1 (true, 10, .inl [.ref (hs.2.1 + 1), .int (iI 0), .int (iI 0), .int (iI 0)]), h2.2), ?_, ?_, ?_⟩
  · rw [← e1, b_J13_init_0, b_J12_init_0, if_pos (by decide)]
    rw [show (iI 16).toNatClampNeg = 16 from by decide, ← e2, pf_at c2 (by decide), Option.bind_some]
    rw [z1]
    rw [pf_at t_up_s (Nat.le_of_ble_eq_true rfl), Option.bind_some]
    rfl
  · refine ⟨t_up_s, ⟨fun _ => 0, ?_, fun j hj => absurd hj (Nat.not_lt_zero j)⟩, by decide, by decide, fun j hj => absurd hj (Nat.not_lt_zero j)⟩
    exact (t_up_n (by omega)).trans ((t_up_n (by omega)).trans v2)
  · have y := x2.up (e := (true, 10, .inl [.ref (hs.2.1 + 1), .int (iI 0), .int (iI 0), .int (iI 0)])) c2 (Nat.le_refl _)
    exact y.up (e := (true, 10, .inl [.ref (hs.2.1 + 1), .int (iI 0), .int (iI 0), .int (iI 0)])) t_up_s (Nat.le_refl _)
/-- room for one letter more -/
theorem c_sbRoom {b v S n z : Nat} {f : Nat → Int} (hF : Fi hs) (B : SB hs.1 b v S n f) (hn : n ≤ 2000) (hb : z ≤ b) : ∃ hs' v' S', t_Ev (t_pg G) t_hd Y_J12_ensureCapacityInternal 0 ([some (.ref b), some (.int (iI ((n : Int) + 1))), none], [], hs) = rV hs' ∧ SB hs'.1 b v' S' n f ∧ n < S' ∧ Mx (fun q => z ≤ q) 1 (if n < S then 0 else S') hs hs' ∧ (v' = v ∨ hs.2.1 ≤ v') ∧ (n < S → hs' = hs ∧ S' = S) ∧ (¬ n < S → S' = 2 * S + 2) := by
  obtain ⟨q, c2, c3⟩ := B.c2
  have ns := B.ns
  have sz := B.sz
  rw [b_J12_ensureCapacityInternal_0, gfR_at (k := 0) (q := v) B.c1 rfl]
  simp only [Option.bind_some, va_rf_some]
  rw [aLen_at c2, Option.bind_some, gfI_at (k := 1) (x := iI 0) B.c1 rfl, Option.bind_some, sh0, show Int32.ofNat S = iI (S : Int) from rfl, iI_sub]
  simp (disch := omega) only [iI_lt]
  by_cases c : n < S
  · rw [if_neg (by omega)]
    exact ⟨hs, v, S, rfl, B, c, by rw [if_pos c]; exact Mx.refl hF, Or.inl rfl, fun _ => ⟨rfl, rfl⟩, fun h => absurd c h⟩
  · have hS : S = n := by omega
    have nc : t_Ev (t_pg G) t_hd Y_J12_newCapacity 0 ([some (.ref b), some (.int (iI ((n : Int) + 1))), none, none, none, none], [], hs) = rI (2 * (S : Int) + 2) hs := by
      rw [b_J12_newCapacity_0, gfR_at (k := 0) (q := v) B.c1 rfl]
      simp only [Option.bind_some, va_rf_some]
      rw [aLen_at c2, Option.bind_some, gfI_at (k := 1) (x := iI 0) B.c1 rfl, Option.bind_some, Option.bind_some, sl0, sl0, show Int32.ofNat S = iI (S : Int) from rfl, iI_sub, iI_add, b_J14_newLength_0, e_max (by omega) (by omega) (by omega) (by omega), bI_rI]
      simp (disch := omega) only [iI_add, iI_lt]
      rw [if_pos (by omega), if_neg (by omega)]
      simp only [rI_of, bI_rI]
      simp (disch := omega) only [iI_inj]
      rw [if_neg (by omega), gfI_at (k := 1) (x := iI 0) B.c1 rfl, Option.bind_some, sh0]
      exact congrArg (fun x => rI x hs) (by omega)
    obtain ⟨h1, e1⟩ : ∃ h1, h1 = t_al hs (t_arr0 2 (2 * S + 2)) (2 * S + 2) := ⟨_, rfl⟩
    have vb : v < hs.2.1 := hF.lt c2
    have bb : b < hs.2.1 := hF.lt B.c1
    have d1 : h1.1 v = some (true, 2, .inr (S, .inl q)) := by rw [e1]; exact (t_up_n (by omega)).trans c2
    have d2 : h1.1 hs.2.1 = some (true, 2, .inr (2 * S + 2, .inl (fun _ => 0))) := by rw [e1]; exact t_up_s
    have d3 : h1.1 b = some (true, 10, .inl [.ref v, .int (iI 0), .int (iI 0), .int (iI n)]) := by rw [e1]; exact (t_up_n (by omega)).trans B.c1
    have cp : t_Ev (t_pg G) t_hd Y_J15_copyOf 0 ([some (.ref v), some (.int (iI (2 * (S : Int) + 2))), none], [], hs) = rR (some hs.2.1) (t_up h1.1 hs.2.1 (true, 2, .inr (2 * S + 2, .inl (va_cpy q (fun _ => 0) 0 0 S))), h1.2) := by
      rw [b_J15_copyOf_0, aLen_at c2, Option.bind_some, show Int32.ofNat S = iI (S : Int) from rfl]
      simp (disch := omega) only [iI_inj, iI_le]
      rw [if_neg (by omega), if_pos (by omega), iI_clamp (by omega) (by omega), show (2 * (S : Int) + 2).toNat = 2 * S + 2 by omega, ← e1, aLen_at d1, Option.bind_some, show Int32.ofNat S = iI (S : Int) from rfl, e_min (by omega) (by omega) (by omega) (by omega), bI_rI, show min (S : Int) (2 * (S : Int) + 2) = S by omega]
      have := cpA_at (n := (S : Int)) (z1 := 0) (z2 := 0) d1 d2 (by decide) (by decide) (by omega) (by omega) (by omega) (by omega) (by omega) (Or.inr ⟨by decide, fun j hj => by
        rw [show (Int.toNat 0 + j) = j by omega, c3 j (by omega)]
        have := B.lt j (by omega)
        exact (okR2 this.1 this.2).1⟩)
      rw [this, Option.bind_some]
      rfl
    rw [if_pos (by omega)]
    (try simp only [Option.bind_some, va_rf_some])
    rw [kN_at B.c1, Option.bind_some, nc, bI_rI, gfI_at (k := 1) (x := iI 0) B.c1 rfl, Option.bind_some, sl0, bR_ex cp]
    have d3' : (t_up h1.1 hs.2.1 (true, 2, .inr (2 * S + 2, .inl (va_cpy q (fun _ => 0) 0 0 S)))) b = some (true, 10, .inl [.ref v, .int (iI 0), .int (iI 0), .int (iI n)]) := (t_up_n (by omega)).trans d3
    rw [va_rf_some, pf_at d3' (Nat.le_of_ble_eq_true rfl), Option.bind_some]
    have ls : ∀ j, j < n → va_cpy q (fun _ => 0) 0 0 S j = iI (f j) := fun j hj => by
      rw [← c3 j hj]
      unfold va_cpy
      rw [if_pos (by omega)]
      exact congrArg q (by omega)
    refine ⟨_, hs.2.1, 2 * S + 2, rfl, ⟨t_up_s, ⟨va_cpy q (fun _ => 0) 0 0 S, (t_up_n (by omega)).trans t_up_s, ls⟩, by omega, by omega, B.lt⟩, by omega, ?_, Or.inr (Nat.le_refl _), fun h => absurd h c, fun _ => rfl⟩
    rw [if_neg c]
    have m1 : Mx (fun q => z ≤ q) 1 (2 * S + 2) hs h1 := by rw [e1]; exact Mx.al hF
    have m2 := m1.trans (Mx.up (c := 0) (d := 0) (e := (true, 2, .inr (2 * S + 2, .inl (va_cpy q (fun _ => 0) 0 0 S)))) m1.2.2.2 d2 (show z ≤ hs.2.1 by omega))
    exact m2.trans (Mx.up (c := 0) (d := 0) m2.2.2.2 d3' hb)
/-- one letter more -/
theorem c_sbApp {b v S n z : Nat} {f : Nat → Int} (hF : Fi hs) (B : SB hs.1 b v S n f) (hn : n ≤ 2000) (hb : z ≤ b) (hv : z ≤ v) (hf : 0 ≤ f n ∧ f n ≤ 127) : ∃ hs' v' S', t_Ev (t_pg G) t_hd Y_J13_append 0 ([some (.ref b), some (.int (iI (f n)))], [], hs) = rR (some b) hs' ∧ SB hs'.1 b v' S' (n + 1) f ∧ Mx (fun q => z ≤ q) 1 (if n < S then 0 else S') hs hs' ∧ z ≤ v' ∧ (n < S → S' = S) ∧ (¬ n < S → S' = 2 * S + 2) := by
  obtain ⟨h1, v', S', e1, B1, hS, m1, hv', q1, q2⟩ := c_sbRoom (G := G) hF B hn hb
  have bl := hF.lt B.c1
  have zv : z ≤ v' := by rcases hv' with h | h <;> omega
  obtain ⟨q, c2, c3⟩ := B1.c2
  have k := okR2 hf.1 hf.2
  have S2 : S' ≤ 5000 := by
    have := B.sz
    have := B.ns
    by_cases c : n < S
    · rw [(q1 c).2]; omega
    · rw [q2 c]; omega
  have c2' : (t_up h1.1 b (true, 10, .inl [.ref v', .int (iI 0), .int (iI 0), .int (iI ((n : Int) + 1))])) v' = some (true, 2, .inr (S', .inl q)) := up_tg c2 B1.c1 (by show ((2 : Nat), S' + 1) ≠ (10, 0); intro h; cases h)
  refine ⟨(t_up (t_up h1.1 b (true, 10, .inl [.ref v', .int (iI 0), .int (iI 0), .int (iI ((n : Int) + 1))])) v' (true, 2, .inr (S', .inl (upd q n (iI (f n))))), h1.2), v', S', ?_, ⟨?_, ⟨upd q n (iI (f n)), t_up_s, fun j hj => ?_⟩, by omega, ?_, fun j hj => ?_⟩, ?_, zv, fun h => (q1 h).2, q2⟩
  · rw [b_J13_append_0, kN_at B.c1, Option.bind_some]
    refine bR_ex (q := some b) ?_
    rw [b_J12_append_0, gfI_at (k := 3) (x := iI (n : Int)) B.c1 rfl, Option.bind_some, kN_at B.c1, Option.bind_some, show iI (n : Int) + iI 1 = iI ((n : Int) + 1) from iI_add _ _, e1, bV_rV, kN_at B1.c1, Option.bind_some, b_J12_isLatin1_0, gfI_at (k := 1) (x := iI 0) B1.c1 rfl, Option.bind_some, if_pos rfl]
    simp only [rI_of, bI_rI]
    rw [if_neg (by decide), b_J4_canEncode_0]
    simp (disch := omega) only [iI_lt]
    rw [if_neg (by omega)]
    simp only [rI_of, bI_rI]
    rw [if_neg (by decide), gfR_at (k := 0) (q := v') B1.c1 rfl, Option.bind_some, gfI_at (k := 3) (x := iI (n : Int)) B1.c1 rfl, Option.bind_some, pf_at B1.c1 (Nat.le_of_ble_eq_true rfl), Option.bind_some, va_rf_some, show iI (n : Int) + iI 1 = iI ((n : Int) + 1) from iI_add _ _]
    have := stI_at (z := (n : Int)) (x := (iI (f n)).toInt8.toInt32) (k1 := 1) (k2 := 2) c2' (Or.inr rfl) (by omega) (by omega) (by omega)
    rw [show ([.ref v', .int (iI 0), .int (iI 0), .int (iI (n : Int))] : List Value).set 3 (.int (iI ((n : Int) + 1))) = [.ref v', .int (iI 0), .int (iI 0), .int (iI ((n : Int) + 1))] from rfl, this, Option.bind_some, k.2, Int.toNat_natCast, show t_nar 2 (iI (f n)) = iI (f n) from k.2]
    rfl
  · exact (t_up_n (ne_tg B1.c1 c2 (by show ((10 : Nat), 0) ≠ (2, S' + 1); intro h; cases h))).trans t_up_s
  · by_cases c : j = n
    · rw [c]; exact if_pos rfl
    · exact (if_neg c).trans (c3 j (by omega))
  · have := B1.sz
    omega
  · by_cases c : j = n
    · rw [c]; exact hf
    · exact B1.lt j (by omega)
  · have m2 := m1.trans (Mx.up (c := 0) (d := 0) (e := (true, 10, .inl [.ref v', .int (iI 0), .int (iI 0), .int (iI ((n : Int) + 1))])) m1.2.2.2 B1.c1 hb)
    exact m2.trans (Mx.up (c := 0) (d := 0) m2.2.2.2 c2' zv)
end SBS
