/-! ===== the component: a game copied, a player added ===== -/
section CG
variable {G : tG} {D M0 : Nat → Prop} {hs : tHS} {a : Nat} {s : tRow}
theorem Ex.keep {c d : Nat} {hs hs' : tHS} {q : Nat} {e : tEnt} (h : Ex c d hs hs') (hq : hs.1 q = some e) (hl : q < hs.2.1) : hs'.1 q = some e := (h.1 q hl (fun z => z)).trans hq
theorem c_gameCopy (hF : Fi hs) (H : GR G D M0 hs.1 a s 2) (hD : ∀ q, hs.2.1 ≤ q → D q) (hB : RB s) (h32 : s 4 ≤ 32) : ∃ hs', t_Ev (t_pg G) t_hd Y_X3_copy 0 ([some (.ref a), none, none], [], hs) = rR (some hs.2.1) hs' ∧ GR G D (fun q => hs.2.1 ≤ q) hs'.1 hs.2.1 s 2 ∧ Ex 9 255 hs hs' := by
  have h40 := (hB 4).1
  obtain ⟨n, hn⟩ : ∃ n, n = hs.2.1 := ⟨_, rfl⟩
  have xA : Ex 1 11 hs (t_al hs (true, 2, .inl [.null, .int (iI 0), .int (iI 0), .null, .null, .null, .int (iI 0), .null, .int (iI 0), .int (iI 0), .int (iI 0)]) 11) := Ex.al hF
  have cA : (t_al hs (true, 2, .inl [.null, .int (iI 0), .int (iI 0), .null, .null, .null, .int (iI 0), .null, .int (iI 0), .int (iI 0), .int (iI 0)]) 11).1 n = some (true, 2, .inl [.null, .int (iI 0), .int (iI 0), .null, .null, .null, .int (iI 0), .null, .int (iI 0), .int (iI 0), .int (iI 0)]) := by rw [hn]; exact t_up_s
  have zA : (t_al hs (true, 2, .inl [.null, .int (iI 0), .int (iI 0), .null, .null, .null, .int (iI 0), .null, .int (iI 0), .int (iI 0), .int (iI 0)]) 11).2 = (n + 1, hs.2.2 + 11) := by rw [hn]; rfl
  rw [b_X3_copy_0, ← hn]
  generalize t_al hs (true, 2, .inl [.null, .int (iI 0), .int (iI 0), .null, .null, .null, .int (iI 0), .null, .int (iI 0), .int (iI 0), .int (iI 0)]) 11 = hA at *
  have zA1 : hA.2.1 = n + 1 := by rw [zA]
  obtain ⟨sv, ca, sa, pa, qa, fc, fs, fp, fq, pl, su, ⟨m1, e1⟩, e2, ⟨m3, e3, e3'⟩, ⟨m4, e4, e4'⟩, ⟨m5, e5⟩, e6, e7, m8, e8, e8'⟩ := id H
  have at' : ∀ {h' : tHS} {c d : Nat} {q : Nat} {e : tEnt}, Ex c d hs h' → hs.1 q = some e → h'.1 q = some e := fun x hq => Kp.ex (T := fun _ => true) hF x _ _ hq rfl
  have lt' : ∀ {q : Nat} {e : tEnt}, hs.1 q = some e → q < n := fun h => by rw [hn]; exact hF.lt h
  have la := lt' e1
  have lca := lt' e3
  have lsa := lt' e4
  have lpa := lt' e5
  have lqa := lt' e8
  obtain ⟨h4, f0, i1, ⟨i2, i3, i4, i5, i6, i7⟩, i8, i9, i10⟩ := c_gameInit0 (M := fun q => n ≤ q) (g := n) (sv := sv) xA.fi cA (Nat.le_refl _) (fun q hq => by omega) (e2.kp (Kp.ex hF xA)) (c_0 := s 0) (w := s 1)
  rw [zA1] at i2 i3 i5 i6 i7 i10
  have xI : Ex 5 237 hs h4 := ((xA.fresh (i9.mono (fun q hq => by rw [← hn]; exact hq) (Nat.le_refl _) (Nat.le_refl _))).le (by decide) (by decide))
  -- cells and straps
  have x5 := xI.up (e := (true, 0, .inr (64, .inl (va_cpy fc f0 0 0 64)))) i3 (by omega)
  have b5 : (t_up h4.1 (n + 1) (true, 0, .inr (64, .inl (va_cpy fc f0 0 0 64)))) (n + 1 + 1) = some (true, 1, .inr (128, .inl (fun _ => 0))) := (t_up_n (by omega)).trans i5
  have x6 := Ex.up x5 (e := (true, 1, .inr (128, .inl (va_cpy fs (fun _ => 0) 0 0 128)))) b5 (by omega)
  obtain ⟨h6, hh6⟩ : ∃ h6 : tHS, h6 = (t_up (t_up h4.1 (n + 1) (true, 0, .inr (64, .inl (va_cpy fc f0 0 0 64)))) (n + 1 + 1) (true, 1, .inr (128, .inl (va_cpy fs (fun _ => 0) 0 0 128))), h4.2) := ⟨_, rfl⟩
  have x6' : Ex 5 237 hs h6 := by rw [hh6]; exact x6
  have z6 : h6.2.1 = n + 5 := by rw [hh6, i10]
  have q0 : h6.1 n = some (true, 2, .inl [.ref sv, .int (iI (s 0)), .int (iI (s 1)), .ref (n + 1), .ref (n + 1 + 1), .ref (n + 1 + 2), .int (iI 0), .ref (n + 1 + 3), .int (iI 0), .int (iI 0), .int (iI 0)]) := by
    rw [hh6]; exact (t_up_n (by omega)).trans ((t_up_n (by omega)).trans i2)
  have q1 : h6.1 (n + 1) = some (true, 0, .inr (64, .inl (va_cpy fc f0 0 0 64))) := by
    rw [hh6]; exact (t_up_n (by omega)).trans t_up_s
  have q2 : h6.1 (n + 1 + 1) = some (true, 1, .inr (128, .inl (va_cpy fs (fun _ => 0) 0 0 128))) := by
    rw [hh6]; exact t_up_s
  have q3 : h6.1 (n + 1 + 2) = some (true, 7, .inr (2, .inr (.inr (.inr (.inr (fun _ => none)))))) := by
    rw [hh6]; exact (t_up_n (by omega)).trans ((t_up_n (by omega)).trans i6)
  have q4 : h6.1 (n + 1 + 3) = some (true, 8, .inr (32, .inr (.inr (.inr (.inr (fun _ => none)))))) := by
    rw [hh6]; exact (t_up_n (by omega)).trans ((t_up_n (by omega)).trans i7)
  -- the first player
  have hf6 := x6'.fi
  obtain ⟨h7, j1, j2, j3, j4⟩ := c_plCopy (M := fun q => n ≤ q) hf6 (fun q hq => by omega) ((e6 0 (by decide)).2.kp (Kp.ex hF x6'))
  rw [z6] at j1 j2 j4
  have x7 : Ex 7 246 hs h7 := x6'.trans j3
  have q37 := j3.keep q3 (by omega)
  have x7' := x7.up (e := (true, 7, .inr (2, .inr (.inr (.inr (.inr (va_up (fun _ => none) 0 (some (n + 5 + 1))))))))) q37 (by omega)
  have p7 := j2.upT (e := (true, 7, .inr (2, .inr (.inr (.inr (.inr (va_up (fun _ => none) 0 (some (n + 5 + 1))))))))) q37 (by show ((7:Nat), 3) ≠ (3, 0); decide) (by show ((7:Nat), 3) ≠ (0, 6); decide) (by show (7:Nat) ≠ 11; decide) (fun l (w : ((7:Nat), 3) = (2, l + 1)) => by cases w)
  obtain ⟨h7b, hh7⟩ : ∃ h7b : tHS, h7b = (t_up h7.1 (n + 1 + 2) (true, 7, .inr (2, .inr (.inr (.inr (.inr (va_up (fun _ => none) 0 (some (n + 5 + 1)))))))), h7.2) := ⟨_, rfl⟩
  have x7b : Ex 7 246 hs h7b := by rw [hh7]; exact x7'
  have z7 : h7b.2.1 = n + 7 := by rw [hh7, j4]
  have p7b : PlR D (fun q => n ≤ q) h7b.1 (n + 5 + 1) (n + 5) s 0 := by rw [hh7]; exact p7
  have keep7 : ∀ {q : Nat} {e : tEnt}, h6.1 q = some e → q < n + 5 → q ≠ n + 1 + 2 → h7b.1 q = some e := fun hq hl hne => by rw [hh7]; exact (t_up_n hne).trans (j3.keep hq (by omega))
  have q3b : h7b.1 (n + 1 + 2) = some (true, 7, .inr (2, .inr (.inr (.inr (.inr (va_up (fun _ => none) 0 (some (n + 5 + 1)))))))) := by rw [hh7]; exact t_up_s
  -- the second
  obtain ⟨h8, k1, k2, k3, k4⟩ := c_plCopy (M := fun q => n ≤ q) x7b.fi (fun q hq => by omega) ((e6 1 (by decide)).2.kp (Kp.ex hF x7b))
  rw [z7] at k1 k2 k4
  have x8 : Ex 9 255 hs h8 := x7b.trans k3
  have q38 := k3.keep q3b (by omega)
  have p78 := p7b.kp (Kp.ex x7b.fi k3)
  have x8' := x8.up (e := (true, 7, .inr (2, .inr (.inr (.inr (.inr (va_up (va_up (fun _ => none) 0 (some (n + 5 + 1))) 1 (some (n + 7 + 1))))))))) q38 (by omega)
  obtain ⟨h8b, hh8⟩ : ∃ h8b : tHS, h8b = (t_up h8.1 (n + 1 + 2) (true, 7, .inr (2, .inr (.inr (.inr (.inr (va_up (va_up (fun _ => none) 0 (some (n + 5 + 1))) 1 (some (n + 7 + 1)))))))), h8.2) := ⟨_, rfl⟩
  have x8b : Ex 9 255 hs h8b := by rw [hh8]; exact x8'
  have p0 : PlR D (fun q => n ≤ q) h8b.1 (n + 5 + 1) (n + 5) s 0 := by rw [hh8]; exact p78.upT q38 (by show ((7:Nat), 3) ≠ (3, 0); decide) (by show ((7:Nat), 3) ≠ (0, 6); decide) (by show (7:Nat) ≠ 11; decide) (fun l (w : ((7:Nat), 3) = (2, l + 1)) => by cases w)
  have p1 : PlR D (fun q => n ≤ q) h8b.1 (n + 7 + 1) (n + 7) s 1 := by rw [hh8]; exact k2.upT q38 (by show ((7:Nat), 3) ≠ (3, 0); decide) (by show ((7:Nat), 3) ≠ (0, 6); decide) (by show (7:Nat) ≠ 11; decide) (fun l (w : ((7:Nat), 3) = (2, l + 1)) => by cases w)
  have keep8 : ∀ {q : Nat} {e : tEnt}, h7b.1 q = some e → q < n + 7 → q ≠ n + 1 + 2 → h8b.1 q = some e := fun hq hl hne => by rw [hh8]; exact (t_up_n hne).trans (k3.keep hq (by omega))
  have w0 := keep8 (keep7 q0 (by omega) (by omega)) (by omega) (by omega)
  have w1 := keep8 (keep7 q1 (by omega) (by omega)) (by omega) (by omega)
  have w2 := keep8 (keep7 q2 (by omega) (by omega)) (by omega) (by omega)
  have w4 := keep8 (keep7 q4 (by omega) (by omega)) (by omega) (by omega)
  have w3 : h8b.1 (n + 1 + 2) = some (true, 7, .inr (2, .inr (.inr (.inr (.inr (va_up (va_up (fun _ => none) 0 (some (n + 5 + 1))) 1 (some (n + 7 + 1)))))))) := by rw [hh8]; exact t_up_s
  -- the rest
  have w0' : (t_up h8b.1 n (true, 2, .inl [.ref sv, .int (iI (s 0)), .int (iI (s 1)), .ref (n + 1), .ref (n + 1 + 1), .ref (n + 1 + 2), .int (iI 2), .ref (n + 1 + 3), .int (iI 0), .int (iI 0), .int (iI 0)])) n = some (true, 2, .inl [.ref sv, .int (iI (s 0)), .int (iI (s 1)), .ref (n + 1), .ref (n + 1 + 1), .ref (n + 1 + 2), .int (iI 2), .ref (n + 1 + 3), .int (iI 0), .int (iI 0), .int (iI 0)]) := t_up_s
  have x9 := x8b.up (e := (true, 2, .inl [.ref sv, .int (iI (s 0)), .int (iI (s 1)), .ref (n + 1), .ref (n + 1 + 1), .ref (n + 1 + 2), .int (iI 2), .ref (n + 1 + 3), .int (iI 0), .int (iI 0), .int (iI 0)])) w0 (by omega)
  have w4' : (t_up h8b.1 n (true, 2, .inl [.ref sv, .int (iI (s 0)), .int (iI (s 1)), .ref (n + 1), .ref (n + 1 + 1), .ref (n + 1 + 2), .int (iI 2), .ref (n + 1 + 3), .int (iI 0), .int (iI 0), .int (iI 0)])) (n + 1 + 3) = some (true, 8, .inr (32, .inr (.inr (.inr (.inr (fun _ => none)))))) := (t_up_n (by omega)).trans w4
  have x10 := Ex.up x9 (e := (true, 8, .inr (32, .inr (.inr (.inr (.inr (va_cpy fq (fun _ => none) 0 0 (s 4).toNat))))))) w4' (by omega)
  have w0'' : (t_up (t_up h8b.1 n (true, 2, .inl [.ref sv, .int (iI (s 0)), .int (iI (s 1)), .ref (n + 1), .ref (n + 1 + 1), .ref (n + 1 + 2), .int (iI 2), .ref (n + 1 + 3), .int (iI 0), .int (iI 0), .int (iI 0)])) (n + 1 + 3) (true, 8, .inr (32, .inr (.inr (.inr (.inr (va_cpy fq (fun _ => none) 0 0 (s 4).toNat))))))) n = some (true, 2, .inl [.ref sv, .int (iI (s 0)), .int (iI (s 1)), .ref (n + 1), .ref (n + 1 + 1), .ref (n + 1 + 2), .int (iI 2), .ref (n + 1 + 3), .int (iI 0), .int (iI 0), .int (iI 0)]) := (t_up_n (by omega)).trans w0'
  have x11 := Ex.up x10 (e := (true, 2, .inl [.ref sv, .int (iI (s 0)), .int (iI (s 1)), .ref (n + 1), .ref (n + 1 + 1), .ref (n + 1 + 2), .int (iI 2), .ref (n + 1 + 3), .int (iI (s 4)), .int (iI (s 2)), .int (iI (s 3))])) w0'' (by omega)
  have H6 := H.kp (Kp.ex hF x6')
  have H7 := H.kp (Kp.ex hF x7b)
  have H8 := H.kp (Kp.ex hF x8b)
  have H9 := H.kp (Kp.ex hF x9)
  have H10 := H.kp (Kp.ex hF x10)
  refine ⟨_, ?_, ?_, x11⟩
  · have HA := H.kp (Kp.ex hF xA)
    rw [gfR_at (k := 0) (q := sv) (at' xA e1) rfl, HA.i1, HA.i2]
    simp only [Option.bind_some, va_rf_some]
    rw [bV_ex i1, gfR_at (k := 3) (q := ca) (at' xI e1) rfl, gfR_at (k := 3) (q := n + 1) i2 rfl]
    simp only [Option.bind_some, va_rf_some]
    rw [cpA_at (z1 := 0) (z2 := 0) (n := 64) (at' xI e3) i3 (by decide) (by decide) (by decide) (by decide) (by decide) (by decide) (by decide) (Or.inl rfl)]
    simp only [Option.bind_some, Int.reduceToNat]
    rw [gfR_at (k := 4) (q := sa) ((t_up_n (by omega)).trans (at' xI e1)) rfl, gfR_at (k := 4) (q := n + 1 + 1) ((t_up_n (by omega)).trans i2) rfl]
    simp only [Option.bind_some, va_rf_some]
    rw [cpA_at (z1 := 0) (z2 := 0) (n := 128) ((t_up_n (by omega)).trans (at' xI e4)) b5 (by decide) (by decide) (by decide) (by decide) (by decide) (by decide) (by decide) (Or.inr ⟨by decide, fun j hj => by rw [show (0:Int).toNat + j = j by simp, e4' j hj]; exact bB_ok⟩)]
    simp only [Option.bind_some, Int.reduceToNat]
    rw [← hh6]
    -- the players
    have step : ∀ (k : Int) (h : tHS) (b : Nat) (m : Nat) (h' : tHS) (fpl : Nat → Option Nat), (k = 0 ∨ k = 1) → GR G D M0 h.1 a s 2 → h.1 n = some (true, 2, .inl [.ref sv, .int (iI (s 0)), .int (iI (s 1)), .ref (n + 1), .ref (n + 1 + 1), .ref (n + 1 + 2), .int (iI 0), .ref (n + 1 + 3), .int (iI 0), .int (iI 0), .int (iI 0)]) → h.1 a = hs.1 a → h.1 pa = hs.1 pa → fp k.toNat = some b → t_kN h.1 (.ref b) 3 = some b → t_Ev (t_pg G) t_hd Y_X4_copy 0 ([some (.ref b), none, none], [], h) = rR (some m) h' → h'.1 (n + 1 + 2) = some (true, 7, .inr (2, .inr (.inr (.inr (.inr fpl))))) → (∃ fl, h'.1 m = some (true, 3, .inl fl)) → t_Ev (t_pg G) t_hd Y_X3_copy 53 ([some (.ref a), some (.ref n), some (.int (iI k))], [], h) = t_Ev (t_pg G) t_hd Y_X3_copy 53 ([some (.ref a), some (.ref n), some (.int (iI (k + 1)))], [], (t_up h'.1 (n + 1 + 2) (true, 7, .inr (2, .inr (.inr (.inr (.inr (va_up fpl k.toNat (some m))))))), h'.2)) := by
      intro k h b m h' fpl hk Hh hn2 ha2 hpa2 hfp hkb hcp hpl hm
      obtain ⟨fl, hm⟩ := hm
      rw [b_X3_copy_53, Hh.i6]
      simp only [Option.bind_some]
      rw [if_pos (by rw [iI_lt (by omega) (by omega) (by omega) (by omega)]; omega), gfR_at (k := 5) (q := n + 1 + 2) hn2 rfl, gfR_at (k := 5) (q := pa) (ha2.trans e1) rfl]
      simp only [Option.bind_some, va_rf_some]
      rw [ldR_at (hpa2.trans e5) (by decide) (by omega) (by omega) (by decide), hfp]
      simp only [Option.bind_some, va_rf_some]
      rw [hkb]
      simp only [Option.bind_some]
      rw [bR_ex hcp, va_rf_some, stR_at hpl (isK_at hm) (by omega) (by omega) (by decide)]
      simp only [Option.bind_some, iI_add]
    have aeq : ∀ {h : tHS} {c d : Nat} {q : Nat} {e : tEnt}, Ex c d hs h → hs.1 q = some e → h.1 q = hs.1 q := fun x hq => (at' x hq).trans hq.symm
    obtain ⟨nm0, g0, ⟨_, r0⟩, _⟩ := id (e6 0 (by decide)).2
    obtain ⟨nm1, g1, ⟨_, r1⟩, _⟩ := id (e6 1 (by decide)).2
    obtain ⟨nm0', g0', ⟨_, r0'⟩, _⟩ := id j2
    obtain ⟨nm1', g1', ⟨_, r1'⟩, _⟩ := id k2
    rw [step 0 h6 (pl 0) (n + 5 + 1) h7 _ (Or.inl rfl) H6 q0 (aeq x6' e1) (aeq x6' e5) (e6 0 (by decide)).1 (kN_at (at' x6' r0)) j1 q37 ⟨_, r0'⟩]
    simp only [Int.reduceToNat]
    rw [← hh7, show (0:Int) + 1 = 1 from rfl, step 1 h7b (pl 1) (n + 7 + 1) h8 _ (Or.inr rfl) H7 (keep7 q0 (by omega) (by omega)) (aeq x7b e1) (aeq x7b e5) (e6 1 (by decide)).1 (kN_at (at' x7b r1)) k1 q38 ⟨_, r1'⟩]
    simp only [Int.reduceToNat]
    have a9 := at' x9 e1
    have a9' := at' x9 e8
    have i98 := H9.i8
    have i108 := H10.i8
    have i109 := H10.i9
    have i1010 := H10.i10
    dsimp only at a9 a9' i98 i108 i109 i1010
    rw [← hh8, b_X3_copy_53, H8.i6]
    simp only [Option.bind_some, show ((2 : Nat) : Int) = 2 from rfl]
    rw [if_neg (by decide), pf_at w0 (Nat.le_of_ble_eq_true rfl)]
    simp only [Option.bind_some, List.set_cons_zero, List.set_cons_succ]
    rw [gfR_at (k := 7) (q := qa) a9 rfl, gfR_at (k := 7) (q := n + 1 + 3) w0' rfl, i98]
    simp only [Option.bind_some, va_rf_some]
    rw [cpR_at a9' w4' h40 (by omega) (by omega) (by decide) (by decide) (fun j hj => by
      obtain ⟨b, f1, q', ⟨d', f2⟩, f3⟩ := e8' j (by omega)
      have f9 := at' x9 f2
      dsimp only at f9
      rw [f1, va_rf_some, isK_at f9]
      rfl)]
    simp only [Option.bind_some]
    rw [i108]
    simp only [Option.bind_some]
    rw [pf_at w0'' (Nat.le_of_ble_eq_true rfl)]
    simp only [Option.bind_some, List.set_cons_zero, List.set_cons_succ]
    have ga : ∀ (e' : tEnt) (h : tAH) (k : Nat), gfI (t_up h n e') (.ref a) 2 k = gfI h (.ref a) 2 k := fun e' h k => gfI_cg (t_up_n (by omega))
    rw [ga, i109]
    simp only [Option.bind_some]
    rw [pf_at t_up_s (Nat.le_of_ble_eq_true rfl)]
    simp only [Option.bind_some, List.set_cons_zero, List.set_cons_succ, t_up_up]
    rw [ga, i1010]
    simp only [Option.bind_some]
    rw [pf_at t_up_s (Nat.le_of_ble_eq_true rfl)]
    simp only [Option.bind_some, List.set_cons_zero, List.set_cons_succ, t_up_up]
    (try rfl)
  · try dsimp only
    have t8 : tg (true, 8, (.inr (32, .inr (.inr (.inr (.inr (fun _ => none)))) ) : List Value ⊕ vp_A)) = (8, 33) := rfl
    refine ⟨sv, n + 1, n + 1 + 1, n + 1 + 2, n + 1 + 3, va_cpy fc f0 0 0 64, va_cpy fs (fun _ => 0) 0 0 128, va_up (va_up (fun _ => none) 0 (some (n + 5 + 1))) 1 (some (n + 7 + 1)), va_cpy fq (fun _ => none) 0 0 (s 4).toNat, fun p => if p = 0 then n + 5 + 1 else n + 7 + 1, fun p => if p = 0 then n + 5 else n + 7, ⟨Nat.le_refl _, t_up_s⟩, e2.kp (Kp.ex hF x11), ⟨by omega, (t_up_n (by omega)).trans ((t_up_n (by omega)).trans ((t_up_n (by omega)).trans w1)), fun j hj => by rw [va_cpy_in hj]; exact e3' j hj⟩, ⟨by omega, (t_up_n (by omega)).trans ((t_up_n (by omega)).trans ((t_up_n (by omega)).trans w2)), fun j hj => by rw [va_cpy_in hj]; exact e4' j hj⟩, ⟨by omega, (t_up_n (by omega)).trans ((t_up_n (by omega)).trans ((t_up_n (by omega)).trans w3))⟩, fun p hp => ?_, fun _ => ⟨(by show n + 5 + 1 ≠ n + 7 + 1; omega), (by show n + 5 ≠ n + 7; omega)⟩, by omega, (t_up_n (by omega)).trans t_up_s, fun k hk => ?_⟩
    · have up3 : ∀ {b su p : Nat}, PlR D (fun q => n ≤ q) h8b.1 b su s p → PlR D (fun q => n ≤ q) (t_up (t_up (t_up h8b.1 n (true, 2, .inl [.ref sv, .int (iI (s 0)), .int (iI (s 1)), .ref (n + 1), .ref (n + 1 + 1), .ref (n + 1 + 2), .int (iI 2), .ref (n + 1 + 3), .int (iI 0), .int (iI 0), .int (iI 0)])) (n + 1 + 3) (true, 8, .inr (32, .inr (.inr (.inr (.inr (va_cpy fq (fun _ => none) 0 0 (s 4).toNat))))))) n (true, 2, .inl [.ref sv, .int (iI (s 0)), .int (iI (s 1)), .ref (n + 1), .ref (n + 1 + 1), .ref (n + 1 + 2), .int (iI 2), .ref (n + 1 + 3), .int (iI (s 4)), .int (iI (s 2)), .int (iI (s 3))])) b su s p := fun h =>
        ((h.upT w0 (by show ((2:Nat), 0) ≠ (3, 0); decide) (by show ((2:Nat), 0) ≠ (0, 6); decide) (by show (2:Nat) ≠ 11; decide) (fun l (w : ((2:Nat), 0) = (2, l + 1)) => by cases w)).upT w4' (by show ((8:Nat), 33) ≠ (3, 0); decide) (by show ((8:Nat), 33) ≠ (0, 6); decide) (by show (8:Nat) ≠ 11; decide) (fun l (w : ((8:Nat), 33) = (2, l + 1)) => by cases w)).upT w0'' (by show ((2:Nat), 0) ≠ (3, 0); decide) (by show ((2:Nat), 0) ≠ (0, 6); decide) (by show (2:Nat) ≠ 11; decide) (fun l (w : ((2:Nat), 0) = (2, l + 1)) => by cases w)
      rcases (show p = 0 ∨ p = 1 by omega) with rfl | rfl
      · exact ⟨rfl, up3 p0⟩
      · exact ⟨rfl, up3 p1⟩
    · obtain ⟨b, f1, f2⟩ := e8' k hk
      exact ⟨b, by rw [va_cpy_in (by omega)]; exact f1, f2.kp (Kp.ex hF x11)⟩
end CG
