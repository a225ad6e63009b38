/-! ===== the component: a player put to the game ===== -/
section AP2
variable {G : tG} {D M : Nat → Prop} {a np : Nat} {s s' : tRow}
theorem GR.addP {hB h : tHS} (hnp : np ≤ 1) (hF : Fi hB) (H : GR G D M hB.1 a s np) (kp : Kp tgG hB.1 h.1) (hs4 : s 4 ≤ 32) (hs : ∀ j, j < 5 + np * 14 ∨ 33 ≤ j → s' j = s j) {b su : Nat} (bz : hB.2.1 ≤ b) (sz : hB.2.1 ≤ su) (P : PlR D M h.1 b su s' np) :
    ∃ pa fp fl, gfR h.1 (.ref a) 2 5 = some (some pa) ∧ h.1 pa = some (true, 7, .inr (2, .inr (.inr (.inr (.inr fp))))) ∧ M pa ∧ h.1 a = some (true, 2, .inl fl) ∧ fl.length = 11 ∧ fl[6]? = some (.int (iI (np : Int))) ∧ M a ∧ a ≠ pa ∧
      GR G D M (t_up (t_up h.1 pa (true, 7, .inr (2, .inr (.inr (.inr (.inr (va_up fp np (some b)))))))) a (true, 2, .inl (fl.set 6 (.int (iI ((np : Int) + 1)))))) a s' (np + 1) := by
  obtain ⟨sv, ca, sa, pa, qa, fc, fs, fp, fq, pl, su0, ⟨m1, e1⟩, e2, ⟨m3, e3, e3'⟩, ⟨m4, e4, e4'⟩, ⟨m5, e5⟩, e6, e7, m8, e8, e8'⟩ := H
  have g1 := kp _ _ e1 rfl
  have g2 := e2.kp kp
  have g3 := kp _ _ e3 rfl
  have g4 := kp _ _ e4 rfl
  have g5 := kp _ _ e5 rfl
  have g8 := kp _ _ e8 rfl
  obtain ⟨fl, hfl⟩ : ∃ fl, fl = ([.ref sv, .int (iI (s 0)), .int (iI (s 1)), .ref ca, .ref sa, .ref pa, .int (iI (np : Int)), .ref qa, .int (iI (s 4)), .int (iI (s 2)), .int (iI (s 3))] : List Value) := ⟨_, rfl⟩
  rw [← hfl] at g1
  have nap : a ≠ pa := ne_tg g1 g5 (by show ((2 : Nat), 0) ≠ (7, 3); decide)
  have g1' : ∀ e, t_up h.1 pa e a = some (true, 2, .inl fl) := fun e => (t_up_n nap).trans g1
  refine ⟨pa, fp, fl, gfR_at g1 (by rw [hfl]; rfl), g5, m5, g1, by rw [hfl]; rfl, by rw [hfl]; rfl, m1, nap, ?_⟩
  have ol : ∀ p, p < np → pl p < hB.2.1 ∧ su0 p < hB.2.1 := fun p hp => by
    obtain ⟨-, nm, f, ⟨-, f1⟩, ⟨-, f2, -⟩, -⟩ := e6 p hp
    exact ⟨hF.lt f1, hF.lt f2⟩
  refine ⟨sv, ca, sa, pa, qa, fc, fs, va_up fp np (some b), fq, fun p => if p = np then b else pl p, fun p => if p = np then su else su0 p, ⟨m1, ?_⟩, ?_, ⟨m3, ?_, fun j hj => ?_⟩, ⟨m4, ?_, fun j hj => ?_⟩, ⟨m5, (t_up_n nap.symm).trans t_up_s⟩, fun p hp => ?_, fun h2 => ?_, m8, ?_, fun k hk => ?_⟩
  · rw [t_up_s, hfl, hs 0 (by omega), hs 1 (by omega), hs 4 (by omega), hs 2 (by omega), hs 3 (by omega)]; rfl
  · exact (g2.up g5 (by show (7 : Nat) ≠ 4; decide)).up (g1' _) (by show (2 : Nat) ≠ 4; decide)
  · exact up_tg (up_tg g3 g5 (by show ((0 : Nat), 65) ≠ (7, 3); decide)) (g1' _) (by show ((0 : Nat), 65) ≠ (2, 0); decide)
  · rw [hs _ (by omega)]; exact e3' j hj
  · exact up_tg (up_tg g4 g5 (by show ((1 : Nat), 129) ≠ (7, 3); decide)) (g1' _) (by show ((1 : Nat), 129) ≠ (2, 0); decide)
  · rw [hs _ (by omega)]; exact e4' j hj
  · try dsimp only
    by_cases c : p = np
    · subst c
      rw [if_pos rfl, if_pos rfl]
      exact ⟨va_up_s, (P.upT g5 (by show ((7 : Nat), 3) ≠ (3, 0); decide) (by show ((7 : Nat), 3) ≠ (0, 6); decide) (by show (7 : Nat) ≠ 11; decide) (fun l => by show ((7 : Nat), 3) ≠ (2, l + 1); intro w; cases w)).upT (g1' _) (by show ((2 : Nat), 0) ≠ (3, 0); decide) (by show ((2 : Nat), 0) ≠ (0, 6); decide) (by show (2 : Nat) ≠ 11; decide) (fun l => by show ((2 : Nat), 0) ≠ (2, l + 1); intro w; cases w)⟩
    · rw [if_neg c, if_neg c]
      have hp' : p < np := by omega
      obtain ⟨f1, f2⟩ := e6 p hp'
      have f3 := (f2.kp kp).cg (s' := s') fun w w0 w1 => hs _ (by unfold plI; omega)
      exact ⟨(va_up_n c).trans f1, (f3.upT g5 (by show ((7 : Nat), 3) ≠ (3, 0); decide) (by show ((7 : Nat), 3) ≠ (0, 6); decide) (by show (7 : Nat) ≠ 11; decide) (fun l => by show ((7 : Nat), 3) ≠ (2, l + 1); intro w; cases w)).upT (g1' _) (by show ((2 : Nat), 0) ≠ (3, 0); decide) (by show ((2 : Nat), 0) ≠ (0, 6); decide) (by show (2 : Nat) ≠ 11; decide) (fun l => by show ((2 : Nat), 0) ≠ (2, l + 1); intro w; cases w)⟩
  · have n1 : np = 1 := by omega
    subst n1
    have := ol 0 (by decide)
    try dsimp only
    rw [if_neg (by decide), if_pos rfl, if_neg (by decide), if_pos rfl]
    omega
  · exact up_tg (up_tg g8 g5 (by show ((8 : Nat), 33) ≠ (7, 3); decide)) (g1' _) (by show ((8 : Nat), 33) ≠ (2, 0); decide)
  · rw [hs 4 (by omega)] at hk
    obtain ⟨b', f1, f2⟩ := e8' k hk
    exact ⟨b', f1, (((f2.kp kp).cg (s' := s') fun i hi => hs _ (by unfold pcI; omega)).up g5 (by show ((7 : Nat), 3) ≠ (5, 0); decide) (by show ((7 : Nat), 3) ≠ (4, 0); decide)).up (g1' _) (by show ((2 : Nat), 0) ≠ (5, 0); decide) (by show ((2 : Nat), 0) ≠ (4, 0); decide)⟩
theorem c_addPlayer {hB hs : tHS} {nm su : Nat} {f : Nat → Int32} {st : Int} (hnp : np ≤ 1) (hFB : Fi hB) (H : GR G D M hB.1 a s np) (kp : Kp tgG hB.1 hs.1) (hF : Fi hs) (hz : hB.2.1 ≤ hs.2.1) (hs4 : s 4 ≤ 32) (hr : ∀ j, j < 5 + np * 14 ∨ 33 ≤ j → s' j = s j) (hM : M hs.2.1) (sz : hB.2.1 ≤ su) (msu : M su) (esu : hs.1 su = some (true, 0, .inr (5, .inl f))) (ef : ∀ k : Nat, k < 5 → f k = iI (ofS s' np (2 + (k : Nat)))) (e1 : ofS s' np 1 = st) (e0 : ofS s' np 0 = 0) (e7 : 0 ≤ ofS s' np 7 ∧ ofS s' np 7 ≤ 6) (hst : ST D hs.1 nm (ofS s' np 7).toNat (fun j => ofS s' np (8 + (j : Nat)))) :
    ∃ hs', t_Ev (t_pg G) t_hd Y_X3_addPlayer 0 ([some (.ref a), some (.ref nm), some (.int (iI st)), some (.ref su)], [], hs) = rV hs' ∧ GR G D M hs'.1 a s' (np + 1) ∧ Mx M 1 4 hs hs' := by
  obtain ⟨h1, q1⟩ : ∃ h1, h1 = t_al hs (true, 3, .inl [.null, .null, .int (iI 0), .int (iI 0)]) 4 := ⟨_, rfl⟩
  have x1 : Ex 1 4 hs h1 := by rw [q1]; exact Ex.al hF
  have b1 : h1.1 hs.2.1 = some (true, 3, .inl [.null, .null, .int (iI 0), .int (iI 0)]) := by rw [q1]; exact t_up_s
  obtain ⟨h2, q2⟩ : ∃ h2 : tHS, h2 = (t_up h1.1 hs.2.1 (true, 3, .inl [.ref nm, .ref su, .int (iI st), .int (iI 0)]), h1.2) := ⟨_, rfl⟩
  have x2 : Ex 1 4 hs h2 := by rw [q2]; exact x1.up b1 (Nat.le_refl _)
  have kp2 : Kp tgG hs.1 h2.1 := Kp.ex hF x2
  have b2 : h2.1 hs.2.1 = some (true, 3, .inl [.ref nm, .ref su, .int (iI st), .int (iI 0)]) := by rw [q2]; exact t_up_s
  have init : t_Ev (t_pg G) t_hd Y_X4_init 0 ([some (.ref hs.2.1), some (.ref nm), some (.int (iI st)), some (.ref su)], [], h1) = rV h2 := by
    rw [b_X4_init_0, pf_at b1 (Nat.le_of_ble_eq_true rfl), Option.bind_some, pf_at t_up_s (Nat.le_of_ble_eq_true rfl), Option.bind_some, t_up_up, pf_at t_up_s (Nat.le_of_ble_eq_true rfl), Option.bind_some, t_up_up, q2]
    rfl
  have su1 : su < hs.2.1 := hF.lt esu
  have P : PlR D M h2.1 hs.2.1 su s' np := ⟨nm, f, ⟨hM, by rw [b2, e1, e0]⟩, ⟨msu, kp2 _ _ esu rfl, ef⟩, e7, hst.kp kp2 (by omega)⟩
  obtain ⟨pa, fp, fl, r1, r2, r3, r4, r5, r6, r7, r8, r9⟩ := GR.addP (h := h2) hnp hFB H (kp.trans kp2) hs4 hr hz sz P
  have al : a < hs.2.1 := by
    obtain ⟨fl', q⟩ := (H.kp kp).aa
    exact hF.lt q
  have ae : h2.1 a = hs.1 a := x2.1 a al (fun z => z)
  have i6 : gfI h2.1 (.ref a) 2 6 = some (iI (np : Int)) := gfI_at r4 r6
  refine ⟨(t_up (t_up h2.1 pa (true, 7, .inr (2, .inr (.inr (.inr (.inr (va_up fp np (some hs.2.1)))))))) a (true, 2, .inl (fl.set 6 (.int (iI ((np : Int) + 1))))), h2.2), ?_, r9, ?_⟩
  · rw [b_X3_addPlayer_0, ← gfR_cg ae, r1, Option.bind_some, ← gfI_cg ae, i6, Option.bind_some, ← q1, init, bV_rV, va_rf_some]
    rw [stR_at r2 (isK_at b2) (by omega) (by omega) (by decide), Option.bind_some]
    rw [gfI_at (k := 6) (x := iI (np : Int)) ((t_up_n r8).trans r4) r6, Option.bind_some, pf_at ((t_up_n r8).trans r4) (by rw [r5]; decide), Option.bind_some, Int.toNat_natCast, show iI (np : Int) + iI 1 = iI ((np : Int) + 1) from iI_add _ _]
    rfl
  · have m2 : Mx M 1 4 hs h2 := x2.mono (fun _ z => absurd z (fun z => z)) (Nat.le_refl _) (Nat.le_refl _)
    have m3 := m2.upM (e := (true, 7, .inr (2, .inr (.inr (.inr (.inr (va_up fp np (some hs.2.1)))))))) r2 r3
    exact m3.upM (e := (true, 2, .inl (fl.set 6 (.int (iI ((np : Int) + 1)))))) ((t_up_n r8).trans r4) r7
end AP2
