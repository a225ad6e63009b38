/-! ===== a short string put behind a text ===== -/
section SBA
variable {G : tG} {hs : tHS}
theorem c_sbRoom0 {b v S n : Nat} {f : Nat → Int} (B : SB hs.1 b v S n f) (hn : n ≤ 2000) : t_Ev (t_pg G) t_hd Y_J12_ensureCapacityInternal 0 ([some (.ref b), some (.int (iI (n : Int))), none], [], hs) = rV hs := by
  obtain ⟨q, c2, c3⟩ := B.c2
  have ns := B.ns
  have sz := B.sz
  rw [b_J12_ensureCapacityInternal_0, gfR_at (k := 0) (q := v) B.c1 rfl]
  simp only [Option.bind_some, va_rf_some]
  rw [aLen_at c2, Option.bind_some, gfI_at (k := 1) (x := iI 0) B.c1 rfl, Option.bind_some, sh0, show Int32.ofNat S = iI (S : Int) from rfl, iI_sub]
  simp (disch := omega) only [iI_lt]
  rw [if_neg (by omega)]
  rfl
theorem c_sbPut {b v S n z q l : Nat} {f f' : Nat → Int} {D : Nat → Prop} (hF : Fi hs) (B : SB hs.1 b v S n f) (hn : n ≤ 2000) (hnl : n + l ≤ S) (hb : z ≤ b) (hv : z ≤ v) (Q : ST D hs.1 q l f') (hq : ∀ k, D k → k < z) (he : ∀ j, j < l → f' j = f (n + j)) (hf : ∀ j, j < l → 0 ≤ f (n + j) ∧ f (n + j) ≤ 127) : ∃ hs', t_Ev (t_pg G) t_hd Y_J12_putStringAt 0 ([some (.ref b), some (.int (iI (n : Int))), some (.ref q)], [], hs) = rV hs' ∧ hs'.1 b = hs.1 b ∧ (∃ q', hs'.1 v = some (true, 2, .inr (S, .inl q')) ∧ ∀ j, j < n + l → q' j = iI (f j)) ∧ Mx (fun q => z ≤ q) 0 0 hs hs' := by
  obtain ⟨g0, c2, c3⟩ := B.c2
  obtain ⟨qd, qb, hv0, hz0, vq, s1, vd, b', g, s2, s3⟩ := Q
  have sz := B.sz
  have ok : ∀ j, j < l → t_okR 2 (g j) = true := fun j hj => by
    rw [s3 j hj, he j hj]
    exact (okR2 (hf j hj).1 (hf j hj).2).1
  have cp := cpA_at (z1 := 0) (z2 := (n : Int)) (n := (l : Int)) s2 c2 (by decide) (by omega) (by omega) (by omega) (by omega) (by omega) (by omega) (Or.inr ⟨by decide, fun j hj => by rw [show (Int.toNat 0 + j) = j by omega]; exact ok j (by omega)⟩)
  have nbv : b ≠ v := ne_tg B.c1 c2 (by show ((10 : Nat), 0) ≠ (2, S + 1); intro h; cases h)
  refine ⟨(t_up hs.1 v (true, 2, .inr (S, .inl (va_cpy g g0 0 n l))), hs.2), ?_, t_up_n nbv, ⟨_, t_up_s, fun j hj => ?_⟩, Mx.up hF c2 hv⟩
  · rw [b_J12_putStringAt_0, kN_at B.c1, Option.bind_some, b_J12_inflateIfNeededFor_0, gfI_at (k := 1) (x := iI 0) B.c1 rfl, Option.bind_some, kN_at s1, Option.bind_some, b_J3_coder_0, gfI_at (k := 1) (x := iI 0) s1 rfl, Option.bind_some, if_pos (by decide), rI_of, bI_rI, if_pos rfl, rV_of, bV_rV, gfR_at (k := 0) (q := v) B.c1 rfl, Option.bind_some, gfI_at (k := 1) (x := iI 0) B.c1 rfl, Option.bind_some, kN_at s1, Option.bind_some, va_rf_some, b_J3_getBytes_0, kN_at s1, Option.bind_some, b_J3_coder_0, gfI_at (k := 1) (x := iI 0) s1 rfl, Option.bind_some, if_pos (by decide), rI_of, bI_rI, if_pos rfl, gfR_at (k := 0) (q := vq) s1 rfl, Option.bind_some, Option.bind_some, va_rf_some, aLen_at s2, Option.bind_some, sl0, show Int32.ofNat l = iI (l : Int) from rfl, cp, Option.bind_some, rV_of, bV_rV]
    rfl
  · unfold va_cpy
    by_cases c : n ≤ j
    · rw [if_pos (by omega), show 0 + (j - n) = j - n by omega, s3 _ (by omega), he _ (by omega), show n + (j - n) = j by omega]
    · rw [if_neg (by omega)]
      exact c3 j (by omega)
theorem c_sbApS {b v S n z q l : Nat} {f f' : Nat → Int} {D : Nat → Prop} (hF : Fi hs) (B : SB hs.1 b v S n f) (hn : n ≤ 1900) (hl : l = 0 ∨ l = 1) (hb : z ≤ b) (hv : z ≤ v) (zz : z ≤ hs.2.1) (Q : ST D hs.1 q l f') (hq : ∀ k, D k → k < z) (he : ∀ j, j < l → f' j = f (n + j)) (hf : ∀ j, j < l → 0 ≤ f (n + j) ∧ f (n + j) ≤ 127) : ∃ hs' v' S', t_Ev (t_pg G) t_hd Y_J13_append_3 0 ([some (.ref b), some (.ref q)], [], hs) = rR (some b) hs' ∧ SB hs'.1 b v' S' (n + l) f ∧ Mx (fun q => z ≤ q) 1 (if n < S then 0 else S') hs hs' ∧ z ≤ v' ∧ (n < S → S' = S) ∧ (¬ n < S → (l = 1 → S' = 2 * S + 2) ∧ (l = 0 → S' = S)) := by
  obtain ⟨qd, qb, hv0, hz0, vq, s1, vd, b', g, s2, s3⟩ := id Q
  have room : ∃ h1 v' S', t_Ev (t_pg G) t_hd Y_J12_ensureCapacityInternal 0 ([some (.ref b), some (.int (iI ((n : Int) + (l : Int)))), none], [], hs) = rV h1 ∧ SB h1.1 b v' S' n f ∧ n + l ≤ S' ∧ Mx (fun q => z ≤ q) 1 (if n < S then 0 else S') hs h1 ∧ z ≤ v' ∧ (n < S → S' = S) ∧ (¬ n < S → (l = 1 → S' = 2 * S + 2) ∧ (l = 0 → S' = S)) := by
    rcases hl with rfl | rfl
    · refine ⟨hs, v, S, ?_, B, by have := B.ns; omega, (Mx.refl hF), hv, fun _ => rfl, fun _ => ⟨fun h => by omega, fun _ => rfl⟩⟩
      rw [show (n : Int) + ((0 : Nat) : Int) = n from Int.add_zero _]
      exact c_sbRoom0 B (by omega)
    · obtain ⟨h1, v', S', e1, B1, hS, m1, hv', q1, q2⟩ := c_sbRoom (G := G) hF B (by omega) hb
      refine ⟨h1, v', S', e1, B1, by omega, m1, by rcases hv' with h | h <;> omega, fun h => (q1 h).2, fun h => ⟨fun _ => q2 h, fun h => by omega⟩⟩
  obtain ⟨h1, v', S', e1, B1, hS, m1, zv, q1, q2⟩ := room
  have Q1 : ST D h1.1 q l f' := ⟨qd, qb, hv0, hz0, vq, (m1.1 q (hF.lt s1) (by have := hq _ qd; omega)).trans s1, vd, b', g, (m1.1 vq (hF.lt s2) (by have := hq _ vd; omega)).trans s2, s3⟩
  obtain ⟨h2, e2, b2, ⟨q', w1, w2⟩, m2⟩ := c_sbPut (G := G) m1.2.2.2 B1 (by omega) hS hb zv Q1 hq he hf
  have c2 := b2.trans B1.c1
  refine ⟨(t_up h2.1 b (true, 10, .inl [.ref v', .int (iI 0), .int (iI 0), .int (iI ((n : Int) + (l : Int)))]), h2.2), v', S', ?_, ⟨t_up_s, ⟨q', up_tg w1 c2 (by show ((2 : Nat), S' + 1) ≠ (10, 0); intro h; cases h), w2⟩, hS, by have := B1.sz; omega, fun j hj => ?_⟩, ?_, zv, q1, q2⟩
  · rw [b_J13_append_3_0, kN_at B.c1, Option.bind_some]
    refine bR_ex (q := some b) ?_
    rw [b_J12_append_3_0, kN_at s1, Option.bind_some, c_sLen Q, bI_rI, gfI_at (k := 3) (x := iI (n : Int)) B.c1 rfl, Option.bind_some, kN_at B.c1, Option.bind_some, show iI (n : Int) + iI (l : Int) = iI ((n : Int) + (l : Int)) from iI_add _ _, e1, bV_rV, gfI_at (k := 3) (x := iI (n : Int)) B1.c1 rfl, Option.bind_some, kN_at B1.c1, Option.bind_some, e2, bV_rV, gfI_at (k := 3) (x := iI (n : Int)) c2 rfl, Option.bind_some, pf_at c2 (Nat.le_of_ble_eq_true rfl), Option.bind_some, show iI (n : Int) + iI (l : Int) = iI ((n : Int) + (l : Int)) from iI_add _ _]
    rfl
  · by_cases c : j < n
    · exact B1.lt j c
    · have := hf (j - n) (by omega)
      rw [show n + (j - n) = j by omega] at this
      exact this
  · have m3 := m1.trans m2
    exact (m3.trans (Mx.up (c := 0) (d := 0) (e := (true, 10, .inl [.ref v', .int (iI 0), .int (iI 0), .int (iI ((n : Int) + (l : Int)))])) m3.2.2.2 c2 hb)).le (by omega) (by omega)
end SBA
