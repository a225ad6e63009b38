/-! ===== the component: a game made, a game copied ===== -/
def row0 (c w : Int) : tRow := fU (fU (fun _ => 0) 0 c) 1 w
theorem row0_n {c w : Int} {j : Nat} (h : 2 ≤ j) : row0 c w j = 0 := (fU_n (by omega)).trans (fU_n (by omega))
/-- a cell written, or made -/
theorem Mx.upM {M : Nat → Prop} {c d : Nat} {hs hs' : tHS} {a : Nat} {e0 e : tEnt} (m : Mx M c d hs hs') (ha : hs'.1 a = some e0) (hM : M a) : Mx M c d hs (t_up hs'.1 a e, hs'.2) := (m.trans (Mx.up (c := 0) (d := 0) m.2.2.2 ha hM)).le (Nat.le_refl _) (Nat.le_refl _)
theorem Mx.alM {M : Nat → Prop} {c d : Nat} {hs hs' : tHS} {e : tEnt} {n : Nat} (m : Mx M c d hs hs') : Mx M (c + 1) (d + n) hs (t_al hs' e n) := m.trans (Mx.al m.2.2.2)
section GN
variable {G : tG} {D M : Nat → Prop} {hs : tHS} {a g sv : Nat} {s : tRow}
theorem c_gameInit0 (hF : Fi hs) (hg : hs.1 g = some (true, 2, .inl [.null, .int (iI 0), .int (iI 0), .null, .null, .null, .int (iI 0), .null, .int (iI 0), .int (iI 0), .int (iI 0)])) (hMg : M g) (hM : ∀ q, hs.2.1 ≤ q → M q) (hS : SV G D hs.1 sv) {c_0 w : Int} :
    ∃ hs' f, t_Ev (t_pg G) t_hd Y_X3_init 0 ([some (.ref g), some (.ref sv), some (.int (iI c_0)), some (.int (iI w)), none], [], hs) = rV hs' ∧ (hs'.1 g = some (true, 2, .inl [.ref sv, .int (iI c_0), .int (iI w), .ref hs.2.1, .ref (hs.2.1 + 1), .ref (hs.2.1 + 2), .int (iI 0), .ref (hs.2.1 + 3), .int (iI 0), .int (iI 0), .int (iI 0)]) ∧ hs'.1 hs.2.1 = some (true, 0, .inr (64, .inl f)) ∧ (∀ j, j < 64 → f j = iI (-1)) ∧ hs'.1 (hs.2.1 + 1) = some (true, 1, .inr (128, .inl (fun _ => 0))) ∧ hs'.1 (hs.2.1 + 2) = some (true, 7, .inr (2, .inr (.inr (.inr (.inr (fun _ => none)))))) ∧ hs'.1 (hs.2.1 + 3) = some (true, 8, .inr (32, .inr (.inr (.inr (.inr (fun _ => none))))))) ∧ SV G D hs'.1 sv ∧ Mx M 4 226 hs hs' ∧ hs'.2 = (hs.2.1 + 4, hs.2.2 + 226) := by
  have hgn : g < hs.2.1 := hF.lt hg
  obtain ⟨n, hn⟩ : ∃ n, n = hs.2.1 := ⟨_, rfl⟩
  rw [b_X3_init_0]
  simp only [al_1, al_2, ← hn]
  have g0 : g ≠ n := by omega
  rw [pf_at ((t_up_n g0).trans hg) (Nat.le_of_ble_eq_true rfl)]
  simp only [Option.bind_some, List.set_cons_zero, List.set_cons_succ]
  rw [pf_at ((t_up_n (by omega)).trans t_up_s) (Nat.le_of_ble_eq_true rfl)]
  simp only [Option.bind_some, List.set_cons_zero, List.set_cons_succ]
  rw [pf_at ((t_up_n (by omega)).trans t_up_s) (Nat.le_of_ble_eq_true rfl)]
  simp only [Option.bind_some, List.set_cons_zero, List.set_cons_succ]
  rw [pf_at ((t_up_n (by omega)).trans t_up_s) (Nat.le_of_ble_eq_true rfl)]
  simp only [Option.bind_some, List.set_cons_zero, List.set_cons_succ]
  -- what the heap is now
  have m1 : Mx M 1 64 hs (t_al hs (t_arr0 0 64) 64) := Mx.al hF
  have m1' := m1.upM (a := g) (e := (true, 2, .inl [.null, .int (iI 0), .int (iI 0), .ref n, .null, .null, .int (iI 0), .null, .int (iI 0), .int (iI 0), .int (iI 0)])) ((t_up_n (by omega)).trans hg) hMg
  have m2 := m1'.alM (e := t_arr0 1 128) (n := 128)
  have m2' := m2.upM (a := g) (e := (true, 2, .inl [.null, .int (iI 0), .int (iI 0), .ref n, .ref (n + 1), .null, .int (iI 0), .null, .int (iI 0), .int (iI 0), .int (iI 0)])) ((t_up_n (by show g ≠ hs.2.1 + 1; omega)).trans t_up_s) hMg
  have m3 := m2'.alM (e := t_arr0 7 2) (n := 2)
  have m3' := m3.upM (a := g) (e := (true, 2, .inl [.null, .int (iI 0), .int (iI 0), .ref n, .ref (n + 1), .ref (n + 1 + 1), .int (iI 0), .null, .int (iI 0), .int (iI 0), .int (iI 0)])) ((t_up_n (by show g ≠ hs.2.1 + 1 + 1; omega)).trans t_up_s) hMg
  have m4 := m3'.alM (e := t_arr0 8 32) (n := 32)
  have m4' := m4.upM (a := g) (e := (true, 2, .inl [.null, .int (iI 0), .int (iI 0), .ref n, .ref (n + 1), .ref (n + 1 + 1), .int (iI 0), .ref (n + 1 + 1 + 1), .int (iI 0), .int (iI 0), .int (iI 0)])) ((t_up_n (by show g ≠ hs.2.1 + 1 + 1 + 1; omega)).trans t_up_s) hMg
  simp only [al_1, al_2, ← hn] at m4'
  obtain ⟨h4, hh4⟩ : ∃ h4, h4 = (t_up (t_up (t_up (t_up (t_up (t_up (t_up (t_up hs.1 n (t_arr0 0 64)) g (true, 2, .inl [.null, .int (iI 0), .int (iI 0), .ref n, .null, .null, .int (iI 0), .null, .int (iI 0), .int (iI 0), .int (iI 0)])) (n + 1) (t_arr0 1 128)) g (true, 2, .inl [.null, .int (iI 0), .int (iI 0), .ref n, .ref (n + 1), .null, .int (iI 0), .null, .int (iI 0), .int (iI 0), .int (iI 0)])) (n + 1 + 1) (t_arr0 7 2)) g (true, 2, .inl [.null, .int (iI 0), .int (iI 0), .ref n, .ref (n + 1), .ref (n + 1 + 1), .int (iI 0), .null, .int (iI 0), .int (iI 0), .int (iI 0)])) (n + 1 + 1 + 1) (t_arr0 8 32)) g (true, 2, .inl [.null, .int (iI 0), .int (iI 0), .ref n, .ref (n + 1), .ref (n + 1 + 1), .int (iI 0), .ref (n + 1 + 1 + 1), .int (iI 0), .int (iI 0), .int (iI 0)])) := ⟨_, rfl⟩
  rw [← hh4] at m4' ⊢
  have v0 : h4 g = some (true, 2, .inl [.null, .int (iI 0), .int (iI 0), .ref n, .ref (n + 1), .ref (n + 1 + 1), .int (iI 0), .ref (n + 1 + 1 + 1), .int (iI 0), .int (iI 0), .int (iI 0)]) := by rw [hh4]; exact t_up_s
  have v1 : h4 n = some (true, 0, .inr (64, .inl (fun _ => 0))) := by
    rw [hh4]
    simp (disch := omega) only [t_up_n]
    exact t_up_s
  have v2 : h4 (n + 1) = some (true, 1, .inr (128, .inl (fun _ => 0))) := by
    rw [hh4]
    simp (disch := omega) only [t_up_n]
    exact t_up_s
  have v3 : h4 (n + 2) = some (true, 7, .inr (2, .inr (.inr (.inr (.inr (fun _ => none)))))) := by
    rw [hh4]
    simp (disch := omega) only [t_up_n]
    exact t_up_s
  have v4 : h4 (n + 3) = some (true, 8, .inr (32, .inr (.inr (.inr (.inr (fun _ => none)))))) := by
    rw [hh4]
    simp (disch := omega) only [t_up_n]
    exact t_up_s
  have vS : SV G D h4 sv := by
    obtain ⟨d, b, f, e1, e2⟩ := hS
    have := hF.lt e1
    have hne : sv ≠ g := ne_tg e1 hg (by show ((4:Nat), 6) ≠ (2, 0); decide)
    refine ⟨d, b, f, ?_, e2⟩
    rw [hh4]
    simp (disch := omega) only [t_up_n]
    exact e1
  clear hh4 m4 m3 m3' m2 m2' m1 m1'
  obtain ⟨⟨h5, f⟩, ⟨w0, w1, w2, w3, w4, wS, wm, wf⟩, e⟩ := lp_ik (N := 64) (σ := tAH × (Nat → Int32)) (I := fun k c => c.1 g = some (true, 2, .inl [.null, .int (iI 0), .int (iI 0), .ref n, .ref (n + 1), .ref (n + 1 + 1), .int (iI 0), .ref (n + 1 + 1 + 1), .int (iI 0), .int (iI 0), .int (iI 0)]) ∧ c.1 n = some (true, 0, .inr (64, .inl c.2)) ∧ c.1 (n + 1) = some (true, 1, .inr (128, .inl (fun _ => 0))) ∧ c.1 (n + 2) = some (true, 7, .inr (2, .inr (.inr (.inr (.inr (fun _ => none)))))) ∧ c.1 (n + 3) = some (true, 8, .inr (32, .inr (.inr (.inr (.inr (fun _ => none)))))) ∧ SV G D c.1 sv ∧ Mx M 4 226 hs (c.1, n + 1 + 1 + 1 + 1, hs.2.2 + 64 + 128 + 2 + 32) ∧ ∀ j, j < k → c.2 j = iI (-1))
    (F := fun k c => t_Ev (t_pg G) t_hd Y_X3_init 41 ([some (.ref g), some (.ref sv), some (.int (iI c_0)), some (.int (iI w)), some (.int (iI (k : Int)))], [], (c.1, n + 1 + 1 + 1 + 1, hs.2.2 + 64 + 128 + 2 + 32))) (fun k hk c hc => by
      obtain ⟨w0, w1, w2, w3, w4, wS, wm, wf⟩ := hc
      have hk' : (k : Int) < 64 := by omega
      refine ⟨(t_up c.1 n (true, 0, .inr (64, .inl (upd c.2 k (iI (-1))))), upd c.2 k (iI (-1))), ⟨(t_up_n (by omega)).trans w0, t_up_s, (t_up_n (by omega)).trans w2, (t_up_n (by omega)).trans w3, (t_up_n (by omega)).trans w4, wS.up w1 (by show (0:Nat) ≠ 4; decide), wm.upM w1 (hM _ (by omega)), fun j hj => ?_⟩, ?_⟩
      · by_cases cj : j = k
        · rw [cj]; exact upd_s
        · exact (upd_n cj).trans (wf j (by omega))
      · try dsimp only
        rw [b_X3_init_41]
        simp (disch := omega) only [iI_lt, hk', if_true]
        rw [gfR_at w0 rfl]
        simp only [Option.bind_some, va_rf_some]
        rw [stI_at w1 (by decide) (by omega) (by omega) (by decide), Int.toNat_natCast]
        simp only [Option.bind_some, iI_add]
        (try rfl)) (h4, fun _ => 0) ⟨v0, v1, v2, v3, v4, vS, m4'.le (by decide) (by decide), fun j hj => absurd hj (Nat.not_lt_zero j)⟩
  dsimp only at w0 w1 w2 w3 w4 wS wm wf
  refine ⟨(t_up h5 g (true, 2, .inl [.ref sv, .int (iI c_0), .int (iI w), .ref n, .ref (n + 1), .ref (n + 1 + 1), .int (iI 0), .ref (n + 1 + 1 + 1), .int (iI 0), .int (iI 0), .int (iI 0)]), n + 1 + 1 + 1 + 1, hs.2.2 + 64 + 128 + 2 + 32), f, Eq.trans e ?_, ?_, wS.up w0 (by show (2:Nat) ≠ 4; decide), wm.upM w0 hMg, by rw [hn]⟩
  · try dsimp only
    rw [b_X3_init_41]
    simp (disch := omega) only [iI_lt, iI_le, iI_inj, Int.toNat_natCast, Int.lt_irrefl, if_true, if_false, reduceIte]
    rw [pf_at w0 (Nat.le_of_ble_eq_true rfl)]
    simp only [Option.bind_some, List.set_cons_zero, List.set_cons_succ, t_up_up]
    rw [pf_at t_up_s (Nat.le_of_ble_eq_true rfl)]
    simp only [Option.bind_some, List.set_cons_zero, List.set_cons_succ, t_up_up]
    rw [pf_at t_up_s (Nat.le_of_ble_eq_true rfl)]
    simp only [Option.bind_some, List.set_cons_zero, List.set_cons_succ, t_up_up]
    (try rfl)
  · exact ⟨t_up_s, (t_up_n (by omega)).trans w1, wf, (t_up_n (by omega)).trans w2, (t_up_n (by omega)).trans w3, (t_up_n (by omega)).trans w4⟩
theorem c_gameInit (hF : Fi hs) (hg : hs.1 g = some (true, 2, .inl [.null, .int (iI 0), .int (iI 0), .null, .null, .null, .int (iI 0), .null, .int (iI 0), .int (iI 0), .int (iI 0)])) (hMg : M g) (hM : ∀ q, hs.2.1 ≤ q → M q) (hS : SV G D hs.1 sv) {c_0 w : Int} :
    ∃ hs', t_Ev (t_pg G) t_hd Y_X3_init 0 ([some (.ref g), some (.ref sv), some (.int (iI c_0)), some (.int (iI w)), none], [], hs) = rV hs' ∧ GR G D M hs'.1 g (row0 c_0 w) 0 ∧ Mx M 4 226 hs hs' ∧ hs'.2 = (hs.2.1 + 4, hs.2.2 + 226) := by
  obtain ⟨hs', f, e, ⟨w0, w1, wf, w2, w3, w4⟩, wS, m, z⟩ := c_gameInit0 hF hg hMg hM hS (c_0 := c_0) (w := w)
  refine ⟨hs', e, ⟨sv, hs.2.1, hs.2.1 + 1, hs.2.1 + 2, hs.2.1 + 3, f, fun _ => 0, fun _ => none, fun _ => none, fun _ => 0, fun _ => 0, ⟨hMg, w0⟩, wS, ⟨hM _ (by omega), w1, fun j hj => ?_⟩, ⟨hM _ (by omega), w2, fun j hj => ?_⟩, ⟨hM _ (by omega), w3⟩, fun p hp => absurd hp (Nat.not_lt_zero p), fun h => absurd h (by decide), hM _ (by omega), w4, fun k hk => ?_⟩, m, z⟩
  · rw [row0_n (by omega)]; exact wf j hj
  · rw [row0_n (by omega)]; rfl
  · rw [row0_n (by omega)] at hk; omega
theorem cpA_at {h : tAH} {a b : Nat} {bb : Bool} {kd n1 n2 : Nat} {f g : Nat → Int32} {z1 z2 n : Int} (ha : h a = some (bb, kd, .inr (n1, .inl f))) (hb : h b = some (true, kd, .inr (n2, .inl g))) (h1 : 0 ≤ z1) (h2 : 0 ≤ z2) (h3 : 0 ≤ n) (h4 : z1 + n ≤ n1) (h5 : z2 + n ≤ n2) (h6 : n1 ≤ 2147483647) (h7 : n2 ≤ 2147483647) (hk : kd = 0 ∨ kd < 3 ∧ ∀ j : Nat, j < n.toNat → t_okR kd (f (z1.toNat + j)) = true) : cpA h (.ref a) (iI z1) (.ref b) (iI z2) (iI n) = some (t_up h b (true, kd, .inr (n2, .inl (va_cpy f g z1.toNat z2.toNat n.toNat)))) := by
  simp only [cpA, ha, hb]
  rw [iI_clamp h1 (by omega), iI_clamp h2 (by omega), iI_clamp h3 (by omega), if_pos]
  refine ⟨trivial, by rw [iI_le (by omega) (by omega) (by omega) (by omega)]; exact h1, by rw [iI_le (by omega) (by omega) (by omega) (by omega)]; exact h2, by rw [iI_le (by omega) (by omega) (by omega) (by omega)]; exact h3, by omega, by omega, ?_⟩
  rcases hk with hk | ⟨hk, hf⟩
  · exact Or.inl hk
  · exact Or.inr ⟨hk, List.all_eq_true.mpr fun j hj => hf j (List.mem_range.mp hj)⟩
theorem cpR_at {h : tAH} {a b : Nat} {bb : Bool} {kd c n1 n2 : Nat} {f g : Nat → Option Nat} {n : Int} (ha : h a = some (bb, kd, .inr (n1, .inr (.inr (.inr (.inr f)))))) (hb : h b = some (true, kd, .inr (n2, .inr (.inr (.inr (.inr g)))))) (h3 : 0 ≤ n) (h4 : n ≤ n1) (h5 : n ≤ n2) (h6 : n1 ≤ 2147483647) (h7 : n2 ≤ 2147483647) (hk : ∀ j : Nat, j < n.toNat → (t_isK h (va_rf (f j)) c).isSome = true) : cpR h kd c (.ref a) (iI 0) (.ref b) (iI 0) (iI n) = some (t_up h b (true, kd, .inr (n2, .inr (.inr (.inr (.inr (va_cpy f g 0 0 n.toNat))))))) := by
  simp only [cpR, ha, hb]
  rw [show (iI 0).toNatClampNeg = 0 from rfl, iI_clamp h3 (by omega), if_pos]
  refine ⟨trivial, trivial, by decide, by decide, by rw [iI_le (by omega) (by omega) (by omega) (by omega)]; exact h3, by omega, by omega, List.all_eq_true.mpr fun j hj => ?_⟩
  rw [Nat.zero_add]
  exact hk j (List.mem_range.mp hj)
theorem va_cpy_in {α : Type} {f g : Nat → α} {n j : Nat} (h : j < n) : va_cpy f g 0 0 n j = f j := by
  unfold va_cpy
  rw [if_pos ⟨Nat.zero_le _, by omega⟩, Nat.zero_add, Nat.sub_zero]
theorem c_plCopy {M0 : Nat → Prop} {b su p : Nat} (hF : Fi hs) (hM : ∀ q, hs.2.1 ≤ q → M q) (H : PlR D M0 hs.1 b su s p) : ∃ hs', t_Ev (t_pg G) t_hd Y_X4_copy 0 ([some (.ref b), none, none], [], hs) = rR (some (hs.2.1 + 1)) hs' ∧ PlR D M hs'.1 (hs.2.1 + 1) hs.2.1 s p ∧ Ex 2 9 hs hs' ∧ hs'.2 = (hs.2.1 + 2, hs.2.2 + 9) := by
  obtain ⟨nm, f, ⟨m1, e1⟩, ⟨m2, e2, e3⟩, e4, e5⟩ := id H
  have lb := hF.lt e1
  have ls := hF.lt e2
  have x1 : Ex 1 5 hs (t_al hs (t_arr0 0 5) 5) := Ex.al hF
  have c1 : (t_up hs.1 hs.2.1 (t_arr0 0 5)) hs.2.1 = some (true, 0, .inr (5, .inl (fun _ => 0))) := t_up_s
  have x2 := x1.up (e := (true, 0, .inr (5, .inl (va_cpy f (fun _ => 0) 0 0 5)))) c1 (Nat.le_refl _)
  have x3 := x2.alM (e := (true, 3, .inl [.null, .null, .int (iI 0), .int (iI 0)])) (n := 4)
  have c3 : (t_up (t_up hs.1 hs.2.1 (true, 0, .inr (5, .inl (va_cpy f (fun _ => 0) 0 0 5)))) (hs.2.1 + 1) (true, 3, .inl [.null, .null, .int (iI 0), .int (iI 0)])) (hs.2.1 + 1) = some (true, 3, .inl [.null, .null, .int (iI 0), .int (iI 0)]) := t_up_s
  have b2 : (t_up (t_up hs.1 hs.2.1 (true, 0, .inr (5, .inl (va_cpy f (fun _ => 0) 0 0 5)))) (hs.2.1 + 1) (true, 3, .inl [.null, .null, .int (iI 0), .int (iI 0)])) b = some (true, 3, .inl [.ref nm, .ref su, .int (iI (ofS s p 1)), .int (iI (ofS s p 0))]) := (t_up_n (by omega)).trans ((t_up_n (by omega)).trans e1)
  have x4 : Ex 2 9 hs (t_up (t_up hs.1 hs.2.1 (true, 0, .inr (5, .inl (va_cpy f (fun _ => 0) 0 0 5)))) (hs.2.1 + 1) (true, 3, .inl [.ref nm, .ref hs.2.1, .int (iI (ofS s p 1)), .int (iI (ofS s p 0))]), hs.2.1 + 2, hs.2.2 + 9) := by
    have := Ex.up x3 (e := (true, 3, .inl [.ref nm, .ref hs.2.1, .int (iI (ofS s p 1)), .int (iI (ofS s p 0))])) t_up_s (by show hs.2.1 ≤ hs.2.1 + 1; omega)
    simp only [al_1, al_2, t_up_up] at this
    exact this
  refine ⟨_, ?_, ?_, x4, rfl⟩
  · rw [b_X4_copy_0]
    simp only [al_1, al_2]
    rw [gfR_at (k := 1) (q := su) ((t_up_n (Nat.ne_of_lt lb)).trans e1) rfl]
    simp only [Option.bind_some, va_rf_some]
    rw [cpA_at (z1 := 0) (z2 := 0) (n := 5) ((t_up_n (Nat.ne_of_lt ls)).trans e2) c1 (by decide) (by decide) (by decide) (by decide) (by decide) (by decide) (by decide) (Or.inl rfl)]
    simp only [Option.bind_some, t_up_up, Int.reduceToNat]
    rw [gfR_at (k := 0) (q := nm) b2 rfl, gfI_at (k := 2) (x := iI (ofS s p 1)) b2 rfl]
    simp only [Option.bind_some, va_rf_some, b_X4_init_0]
    rw [show (t_al (t_up hs.1 hs.2.1 (true, 0, .inr (5, .inl (va_cpy f (fun _ => 0) 0 0 5))), hs.2.1 + 1, hs.2.2 + 5) (true, 3, .inl [.null, .null, .int (iI 0), .int (iI 0)]) 4) = (t_up (t_up hs.1 hs.2.1 (true, 0, .inr (5, .inl (va_cpy f (fun _ => 0) 0 0 5)))) (hs.2.1 + 1) (true, 3, .inl [.null, .null, .int (iI 0), .int (iI 0)]), hs.2.1 + 2, hs.2.2 + 9) from rfl]
    rw [pf_at t_up_s (Nat.le_of_ble_eq_true rfl)]
    simp only [Option.bind_some, t_up_up]
    rw [pf_at t_up_s (Nat.le_of_ble_eq_true rfl)]
    simp only [Option.bind_some, t_up_up]
    rw [pf_at t_up_s (Nat.le_of_ble_eq_true rfl)]
    simp only [Option.bind_some, t_up_up, bndV_ret]
    rw [gfI_at (k := 3) (x := iI (ofS s p 0)) ((t_up_n (by omega)).trans ((t_up_n (by omega)).trans e1)) rfl]
    simp only [Option.bind_some]
    rw [pf_at t_up_s (Nat.le_of_ble_eq_true rfl)]
    simp only [Option.bind_some, t_up_up]
    (try rfl)
  · refine ⟨nm, va_cpy f (fun _ => 0) 0 0 5, ⟨hM _ (by omega), t_up_s⟩, ⟨hM _ (Nat.le_refl _), (t_up_n (by omega)).trans t_up_s, fun k hk => ?_⟩, e4, e5.kp (Kp.ex hF x4) (by omega)⟩
    rw [va_cpy_in hk]; exact e3 k hk
end GN
