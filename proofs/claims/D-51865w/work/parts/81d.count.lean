/-! ===== the component: placements counted, the best one ===== -/
theorem tfn_of {h : tAH} {a : Nat} {b : Bool} {c : Nat} {vs : List Value} {ps : List (Nat × Nat × Nat × Nat × Nat)} {q : Nat × Nat × Nat × Nat × Nat} (hh : h a = some (b, c, .inl vs)) (hv : vs.all t_c1 = true) (hf : ps.find? (fun q => q.1 == c) = some q) (hl : vs.length = q.2.2.2.2 ∧ (q.2.2.2.1 = 99 ∨ (t_kN h (vs.headD .null) q.2.2.2.1).isSome = true)) : t_fn h (.ref a) ps = some (q.2.1, q.2.2.1, vs) := by
  simp only [t_fn, hh, hv, if_true, hf, if_pos hl]
theorem vX_count {s : tRow} {sh r y : Int} {a : Int} : vX s (fun _ _ _ _ a => a + 1) sh r y a = a + fitr s sh r y := by
  unfold vX fitr
  rw [← fd_sum]
  refine fd_congr fun k _ a => ?_
  by_cases c : mf s sh r k y = 0
  · simp only [if_pos c, decide_eq_true c]; rfl
  · simp only [if_neg c, decide_eq_false c, bB_f, Int.add_zero]
theorem vF_count {s : tRow} {φ : Int → Bool} : vF s φ (fun _ _ _ _ a => a + 1) 0 = sm (fun sh => if φ sh = true then fitc s sh else 0) 5 := by
  have hY : ∀ sh r a, vY s (fun _ _ _ _ a => a + 1) sh r a = a + fitq s sh r := fun sh r a => by
    unfold vY fitq
    rw [← fd_sum]
    exact fd_congr fun k _ a => vX_count
  have hR : ∀ sh a, vR s (fun _ _ _ _ a => a + 1) sh a = a + fitc s sh := fun sh a => by
    unfold vR fitc
    rw [← fd_sum]
    exact fd_congr fun k _ a => hY _ _ _
  unfold vF
  rw [show sm (fun sh => if φ sh = true then fitc s sh else 0) 5 = 0 + sm (fun sh : Nat => if φ sh = true then fitc s sh else 0) 5 by rw [Int.zero_add], ← fd_sum]
  refine fd_congr fun k _ a => ?_
  by_cases c : φ k = true
  · simp only [if_pos c]; exact hR _ _
  · simp only [if_neg c, Int.add_zero]
theorem al_1 {hs : tHS} {e : tEnt} {n : Nat} : (t_al hs e n).1 = t_up hs.1 hs.2.1 e := rfl
theorem al_2 {hs : tHS} {e : tEnt} {n : Nat} : (t_al hs e n).2 = (hs.2.1 + 1, hs.2.2 + n) := rfl
theorem Ex.al {hs : tHS} {e : tEnt} {n : Nat} (h : Fi hs) : Ex 1 n hs (t_al hs e n) := Mx.al h
theorem Ex.fi {c d : Nat} {hs hs' : tHS} (h : Ex c d hs hs') : Fi hs' := h.2.2.2
/-- a new cell written -/
theorem Ex.up {c d : Nat} {hs hs' : tHS} {a : Nat} {e0 e : tEnt} (h : Ex c d hs hs') (ha : hs'.1 a = some e0) (hn : hs.2.1 ≤ a) : Ex c d hs (t_up hs'.1 a e, hs'.2) :=
  ((h.fresh (Mx.up (c := 0) (d := 0) (M := fun q => hs.2.1 ≤ q) h.2.2.2 ha hn)).le (Nat.le_refl _) (Nat.le_refl _))
theorem upd_s {f : Nat → Int32} {k : Nat} {x : Int32} : upd f k x k = x := by unfold upd; exact if_pos rfl
theorem upd_n {f : Nat → Int32} {k j : Nat} {x : Int32} (h : j ≠ k) : upd f k x j = f j := by unfold upd; exact if_neg h
section CNT
variable {G : tG} {D M : Nat → Prop} {hs : tHS} {a fl : Nat} {s : tRow}
theorem c_countFitting {φ : Int → Bool} (hF : Fi hs) (H : GR G D M hs.1 a s 2) (C : CH G D hs.1) (hD : Dm s) (hB : RB s)
    (hφ : ∀ hs', Ex 3 6 hs hs' → ∀ sh, 0 ≤ sh → sh ≤ 4 → ∃ y' k vs, t_fn hs'.1 (.ref fl) [(100, 161, 0, 2, 2), (102, 162, 0, 2, 1), (104, 163, 0, 2, 1), (106, 164, 0, 99, 0), (108, 165, 0, 99, 1)] = some (y', k, vs) ∧ t_Ev (t_pg G) t_hd y' 0 (t_l0 (vs ++ [.ref (G.1 sh.toNat)]) k, [], hs') = rB (φ sh) hs') :
    ∃ hs', t_Ev (t_pg G) t_hd Y_X3_countFitting 0 ([some (.ref a), some (.ref fl), none], [], hs) = rI (sm (fun sh => if φ sh = true then fitc s sh else 0) 5) hs' ∧ Ex 3 6 hs hs' := by
  obtain ⟨sv, e1, hS⟩ := H.sv
  have x1 : Ex 1 1 hs (t_al hs (t_arr0 0 1) 1) := Ex.al hF
  have x2 : Ex 2 2 hs (t_al (t_al hs (t_arr0 0 1) 1) (true, 101, .inl [.ref hs.2.1]) 1) := x1.trans (Ex.al x1.fi)
  have k2 : ∀ T, Kp T hs.1 (t_al (t_al hs (t_arr0 0 1) 1) (true, 101, .inl [.ref hs.2.1]) 1).1 := fun T => Kp.ex hF x2
  have H2 := H.kp (k2 _)
  have S2 := hS.kp (k2 _)
  have g2 : gfR (t_al (t_al hs (t_arr0 0 1) 1) (true, 101, .inl [.ref hs.2.1]) 1).1 (.ref a) 2 0 = some (some sv) := by
    obtain ⟨sv0, ca, sa, pa, qa, fc, fs, fp, fq, pl, su, ⟨m1, f1⟩, -⟩ := id H
    have := gfR_at (k := 0) (q := sv0) f1 rfl
    rw [e1] at this
    cases this
    exact gfR_at (k2 (fun _ => true) _ _ f1 rfl) rfl
  have c0 : (t_al (t_al hs (t_arr0 0 1) 1) (true, 101, .inl [.ref hs.2.1]) 1).1 hs.2.1 = some (t_arr0 0 1) := (t_up_n (Nat.ne_of_lt (Nat.lt_succ_self _))).trans t_up_s
  have c1 : (t_al (t_al hs (t_arr0 0 1) 1) (true, 101, .inl [.ref hs.2.1]) 1).1 (hs.2.1 + 1) = some (true, 101, .inl [.ref hs.2.1]) := t_up_s
  generalize hh2 : t_al (t_al hs (t_arr0 0 1) 1) (true, 101, .inl [.ref hs.2.1]) 1 = hs2 at *
  have hz : hs2.2 = (hs.2.1 + 2, hs.2.2 + 2) := by rw [← hh2]; rfl
  have J0 : ∀ acc : Int, ∀ h : tHS, (Ex 3 6 hs h ∧ (∃ f, h.1 hs.2.1 = some (true, 0, .inr (1, .inl f)) ∧ f 0 = iI acc) ∧ h.1 (hs.2.1 + 1) = some (true, 101, .inl [.ref hs.2.1])) → GR G D M h.1 a s 2 ∧ CH G D h.1 ∧ SV G (fun _ => True) h.1 sv := fun acc h hj =>
    ⟨H.kp (Kp.ex hF hj.1), C.kp (Kp.ex hF hj.1), (hS.kp (Kp.ex hF hj.1)).dm fun _ _ _ _ => trivial⟩
  have V : Vw G D M a s (hs.2.1 + 1) hs2.2.1 sv (fun _ _ _ _ a => a + 1) (fun (acc : Int) (h : tHS) => Ex 3 6 hs h ∧ (∃ f, h.1 hs.2.1 = some (true, 0, .inr (1, .inl f)) ∧ f 0 = iI acc) ∧ h.1 (hs.2.1 + 1) = some (true, 101, .inl [.ref hs.2.1])) := by
    rw [hz]
    refine ⟨J0, fun acc h e e' hj hq => ?_, fun acc h sh r x y hj hP _ _ _ _ _ _ _ => ?_⟩
    · obtain ⟨j1, ⟨f, j2, j3⟩, j4⟩ := hj
      refine ⟨j1.up hq (by show _ ≤ hs.2.1 + 2; omega), ⟨f, ?_, j3⟩, ?_⟩
      · exact (t_up_n (by show hs.2.1 ≠ hs.2.1 + 2; omega)).trans j2
      · exact (t_up_n (by show hs.2.1 + 1 ≠ hs.2.1 + 2; omega)).trans j4
    · obtain ⟨j1, ⟨f, j2, j3⟩, j4⟩ := hj
      refine ⟨_, _, _, (t_up h.1 hs.2.1 (true, 0, .inr (1, .inl (upd f 0 (iI (acc + 1))))), h.2), tfn_of j4 rfl rfl ⟨rfl, Or.inl rfl⟩, ?_, ⟨j1.up j2 (Nat.le_refl _), ⟨_, t_up_s, upd_s⟩, ?_⟩, ?_⟩
      · show t_Ev (t_pg G) t_hd Y_X3_lambda_countFitting_0 0 ([some (.ref hs.2.1), some (.ref (hs.2.1 + 2))], [], h) = _
        rw [b_X3_lambda_countFitting_0_0, ldI_at (z := 0) j2 (by decide) (by decide) (by decide) (by decide)]
        simp only [Option.bind_some, Int.reduceToNat, j3, iI_add]
        rw [stI_at j2 (by decide) (by decide) (by decide) (by decide)]
        rfl
      · exact (t_up_n (by show hs.2.1 + 1 ≠ hs.2.1; omega)).trans j4
      · exact ⟨trivial, (t_up_n (by show hs.2.1 + 2 ≠ hs.2.1; omega)).trans hP.2⟩
  have x3 := x2.trans (Ex.al (e := (true, 5, .inl [.ref (G.1 0), .int (iI 0), .int (iI 0), .int (iI 0)])) (n := 4) x2.fi)
  obtain ⟨hs', sh', r', x', y', g1, ⟨j1, ⟨f, j2, j3⟩, j4⟩, -⟩ := c_visitFitting (fl := fl) (vi := hs.2.1 + 1) (φ := φ) (st := (0 : Int)) x2.fi g2 S2 V
    (fun st h sh hj h1 h2 => hφ h hj.1 sh h1 h2) ⟨x3, ⟨fun _ => 0, (t_up_n (by rw [hz]; show hs.2.1 ≠ hs.2.1 + 2; omega)).trans c0, rfl⟩, (t_up_n (by rw [hz]; show hs.2.1 + 1 ≠ hs.2.1 + 2; omega)).trans c1⟩ hD hB
  refine ⟨hs', ?_, j1⟩
  rw [b_X3_countFitting_0, hh2]
  simp only [H2.k, Option.bind_some]
  rw [show ((t_al hs (t_arr0 0 1) 1).2).1 = hs.2.1 + 1 from rfl, bV_ex g1, ldI_at (z := 0) j2 (by decide) (by decide) (by decide) (by decide)]
  simp only [Option.bind_some, Int.reduceToNat, j3, vF_count]
  (try rfl)
theorem c_mobilityOf (hF : Fi hs) (H : GR G D M hs.1 a s 2) (C : CH G D hs.1) (hD : Dm s) (hB : RB s) {p : Int} (h1 : 0 ≤ p) (h2 : p ≤ 1) : ∃ hs', t_Ev (t_pg G) t_hd Y_X3_mobilityOf 0 ([some (.ref a), some (.int (iI p))], [], hs) = rI (movs s p) hs' ∧ Ex 4 8 hs hs' := by
  have x1 : Ex 1 2 hs (t_al hs (true, 100, .inl [.ref a, .int (iI p)]) 2) := Ex.al hF
  have k1 : ∀ T, Kp T hs.1 (t_al hs (true, 100, .inl [.ref a, .int (iI p)]) 2).1 := fun T => Kp.ex hF x1
  have c1 : (t_al hs (true, 100, .inl [.ref a, .int (iI p)]) 2).1 hs.2.1 = some (true, 100, .inl [.ref a, .int (iI p)]) := t_up_s
  obtain ⟨hs', e, x2⟩ := c_countFitting (fl := hs.2.1) (φ := fun sh => decide (0 < ofS s p (2 + sh))) x1.fi (H.kp (k1 _)) (C.kp (k1 _)) hD hB (fun h hx sh h3 h4 => by
    have k2 : ∀ T, Kp T (t_al hs (true, 100, .inl [.ref a, .int (iI p)]) 2).1 h.1 := fun T => Kp.ex x1.fi hx
    have H2 := (H.kp (k1 _)).kp (k2 _)
    refine ⟨_, _, _, tfn_of (k2 (fun _ => true) _ _ c1 rfl) rfl rfl ⟨rfl, Or.inr (by show (t_kN h.1 (.ref a) 2).isSome = true; rw [H2.k]; rfl)⟩, ?_⟩
    show t_Ev (t_pg G) t_hd Y_X3_lambda_mobilityOf_1 0 ([some (.ref a), some (.int (iI p)), some (.ref (G.1 sh.toNat))], [], h) = _
    rw [b_X3_lambda_mobilityOf_1_0]
    simp (disch := omega) only [Option.bind_some, va_rf_some, va_rf_none, bI_rI, bI_rB, bV_rV, bB_0, bB_1, iI_add, iI_sub, iI_mul, iI_neg, rI_of, rV_of, Int.reduceToNat, Int.neg_neg, H2.k, c_hasPiece H2 ((C.kp (k1 _)).kp (k2 _)) hB h3 h4 h1 (show p < ((2 : Nat) : Int) by omega) (Nat.le_refl 2)]
    rw [if_pos bB_ok]
    rfl)
  refine ⟨hs', ?_, (x1.trans x2).le (by decide) (by decide)⟩
  rw [b_X3_mobilityOf_0]
  simp only [(H.kp (k1 _)).k, Option.bind_some, e, bI_rI]
  refine rI_cg (sm_congr fun k _ => ?_)
  unfold movf
  simp only [decide_eq_true_eq]
/-! the best placement -/
def bsf (s : tRow) (sh r x y : Int) (b : Int × Option (Int × Int × Int × Int)) : Int × Option (Int × Int × Int × Int) := if b.1 < pts s sh r y then (pts s sh r y, some (sh, r, x, y)) else b
def bst (s : tRow) : Option (Int × Int × Int × Int) := if ovr s = true then none else (vF s (fun sh => decide (0 < ofS s (s 2) (2 + sh))) (bsf s) (0, none)).2
/-- the object of a placement, if there is one -/
def PO (G : tG) (h : tAH) (o : Option Nat) (b : Option (Int × Int × Int × Int)) : Prop := match o, b with
  | none, none => True
  | some q, some t => PL G (fun _ => True) h q t.1 t.2.1 t.2.2.1 t.2.2.2 ∧ 0 ≤ t.1 ∧ t.1 ≤ 4
  | _, _ => False
theorem PO.of {G : tG} {h h' : tAH} {o : Option Nat} {b : Option (Int × Int × Int × Int)} (hk : ∀ q, o = some q → h' q = h q) (H : PO G h o b) : PO G h' o b := by
  unfold PO at H ⊢
  rcases o with _ | q <;> rcases b with _ | t
  · trivial
  · exact H
  · exact H
  · exact ⟨⟨trivial, (hk q rfl).trans H.1.2⟩, H.2⟩
end CNT
