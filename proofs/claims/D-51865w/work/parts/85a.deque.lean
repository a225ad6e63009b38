/-! ===== the component's deque of games ===== -/
abbrev rfs (f : Nat → Option Nat) : (Nat → Int32) ⊕ (Nat → Int64) ⊕ (Nat → UInt32) ⊕ (Nat → UInt64) ⊕ (Nat → Option Nat) := .inr (.inr (.inr (.inr f)))
/-- the deque at dq, its array ea, its first at hd, c games -/
abbrev DQ (h : tAH) (dq ea hd c : Nat) (gs : Nat → Nat) : Prop := (h dq = some (true, 9, .inl [.ref ea, .int (iI (hd : Int)), .int (iI (((hd + c) % 17 : Nat) : Int))])) ∧ (∃ fe, h ea = some (true, 5, .inr (17, rfs fe)) ∧ ∀ k, k < c → fe ((hd + k) % 17) = some (gs k)) ∧ (hd < 17) ∧ (c ≤ 8)
theorem DQ.e1 {h : tAH} {dq ea hd c : Nat} {gs : Nat → Nat} (zz : DQ h dq ea hd c gs) : h dq = some (true, 9, .inl [.ref ea, .int (iI (hd : Int)), .int (iI (((hd + c) % 17 : Nat) : Int))]) := zz.1
theorem DQ.e2 {h : tAH} {dq ea hd c : Nat} {gs : Nat → Nat} (zz : DQ h dq ea hd c gs) : ∃ fe, h ea = some (true, 5, .inr (17, rfs fe)) ∧ ∀ k, k < c → fe ((hd + k) % 17) = some (gs k) := zz.2.1
theorem DQ.l1 {h : tAH} {dq ea hd c : Nat} {gs : Nat → Nat} (zz : DQ h dq ea hd c gs) : hd < 17 := zz.2.2.1
theorem DQ.l2 {h : tAH} {dq ea hd c : Nat} {gs : Nat → Nat} (zz : DQ h dq ea hd c gs) : c ≤ 8 := zz.2.2.2
theorem DQ.cg {h h' : tAH} {dq ea hd c : Nat} {gs : Nat → Nat} (d : DQ h dq ea hd c gs) (h1 : h' dq = h dq) (h2 : h' ea = h ea) : DQ h' dq ea hd c gs := by
  obtain ⟨fe, e2, e3⟩ := d.e2
  exact ⟨h1.trans d.e1, ⟨fe, h2.trans e2, e3⟩, d.l1, d.l2⟩
theorem DQ.ne {h : tAH} {dq ea hd c : Nat} {gs : Nat → Nat} (d : DQ h dq ea hd c gs) : dq ≠ ea := by
  obtain ⟨fe, e2, e3⟩ := d.e2
  exact ne_tg d.e1 e2 (by show ((9 : Nat), 0) ≠ (5, 18); decide)
section DQS
variable {G : tG} {hs : tHS} {dq ea hd c : Nat} {gs : Nat → Nat}
theorem e_inc17 {a : Nat} (h : a < 17) : t_Ev (t_pg G) t_hd Y_J2_inc 0 ([some (.int (iI (a : Int))), some (.int (iI 17))], [], hs) = rI (((a + 1) % 17 : Nat) : Int) hs := by
  rw [b_J2_inc_0, show iI (a : Int) + iI 1 = iI ((a + 1 : Nat) : Int) from iI_add _ _]
  simp (disch := omega) only [iI_lt]
  by_cases q : a = 16
  · subst q
    rw [if_neg (by decide)]
    rfl
  · rw [if_pos (by omega), show (a + 1) % 17 = a + 1 by omega]
    rfl
theorem c_dqSize (d : DQ hs.1 dq ea hd c gs) : t_Ev (t_pg G) t_hd Y_J2_size 0 ([some (.ref dq)], [], hs) = rI (c : Int) hs := by
  obtain ⟨fe, e2, e3⟩ := d.e2
  have l1 := d.l1
  have l2 := d.l2
  rw [b_J2_size_0, gfI_at (k := 2) (x := iI (((hd + c) % 17 : Nat) : Int)) d.e1 rfl, Option.bind_some, gfI_at (k := 1) (x := iI (hd : Int)) d.e1 rfl, Option.bind_some, gfR_at (k := 0) (q := ea) d.e1 rfl, Option.bind_some, va_rf_some, aLen_at e2, Option.bind_some, b_J2_sub_0, show Int32.ofNat 17 = iI 17 from rfl]
  simp (disch := omega) only [iI_sub, iI_add, iI_lt]
  by_cases q : hd + c < 17
  · rw [Nat.mod_eq_of_lt q, if_neg (by omega)]
    simp only [rI_of, bI_rI]
    exact rI_cg (by omega)
  · rw [if_pos (by omega)]
    simp only [rI_of, bI_rI]
    exact rI_cg (by omega)
theorem c_dqEmpty (d : DQ hs.1 dq ea hd c gs) : t_Ev (t_pg G) t_hd Y_J2_isEmpty 0 ([some (.ref dq)], [], hs) = rB (decide (c = 0)) hs := by
  have l1 := d.l1
  have l2 := d.l2
  rw [b_J2_isEmpty_0, gfI_at (k := 1) (x := iI (hd : Int)) d.e1 rfl, Option.bind_some, gfI_at (k := 2) (x := iI (((hd + c) % 17 : Nat) : Int)) d.e1 rfl, Option.bind_some]
  simp (disch := omega) only [iI_inj]
  by_cases q : c = 0
  · rw [if_pos (by omega), decide_eq_true q]; rfl
  · rw [if_neg (by omega), decide_eq_false q]; rfl
theorem c_addLast {g : Nat} (d : DQ hs.1 dq ea hd c gs) (hF : Fi hs) (hc : c ≤ 7) (hg : t_isK hs.1 (.ref g) 2 = some (some g)) : ∃ hs', t_Ev (t_pg G) t_hd Y_J2_addLast 0 ([some (.ref dq), some (.ref g), none], [], hs) = rV hs' ∧ DQ hs'.1 dq ea hd (c + 1) (fun k => if k = c then g else gs k) ∧ Mx (fun q => q = dq ∨ q = ea) 0 0 hs hs' := by
  obtain ⟨fe, e2, e3⟩ := d.e2
  have l1 := d.l1
  have l2 := d.l2
  have ne := d.ne
  have h1 := (t_up_n (h := hs.1) (e := (true, 5, .inr (17, rfs (va_up fe ((hd + c) % 17) (some g))))) ne).trans d.e1
  refine ⟨(t_up (t_up hs.1 ea (true, 5, .inr (17, rfs (va_up fe ((hd + c) % 17) (some g))))) dq (true, 9, .inl [.ref ea, .int (iI (hd : Int)), .int (iI (((hd + (c + 1)) % 17 : Nat) : Int))]), hs.2), ?_, ⟨t_up_s, ⟨_, (t_up_n ne.symm).trans t_up_s, fun k hk => ?_⟩, l1, by omega⟩, ?_⟩
  · rw [b_J2_addLast_0, gfR_at (k := 0) (q := ea) d.e1 rfl, Option.bind_some, gfI_at (k := 2) (x := iI (((hd + c) % 17 : Nat) : Int)) d.e1 rfl, Option.bind_some, va_rf_some, stR_at e2 hg (by omega) (by omega) (by decide), Option.bind_some, Int.toNat_natCast]
    rw [gfI_at (k := 1) (x := iI (hd : Int)) h1 rfl, Option.bind_some, gfI_at (k := 2) (x := iI (((hd + c) % 17 : Nat) : Int)) h1 rfl, Option.bind_some, aLen_at t_up_s, Option.bind_some, show Int32.ofNat 17 = iI 17 from rfl, e_inc17 (by omega), bI_rI, pf_at h1 (Nat.le_of_ble_eq_true rfl), Option.bind_some, show ((hd + c) % 17 + 1) % 17 = (hd + (c + 1)) % 17 by omega]
    simp (disch := omega) only [iI_inj]
    rw [if_neg (by omega)]
    rfl
  · try dsimp only
    by_cases q : k = c
    · rw [q, if_pos rfl, va_up_s]
    · rw [if_neg q, va_up_n (by omega)]
      exact e3 k (by omega)
  · have m1 : Mx (fun q => q = dq ∨ q = ea) 0 0 hs (t_up hs.1 ea (true, 5, .inr (17, rfs (va_up fe ((hd + c) % 17) (some g)))), hs.2) := Mx.up hF e2 (Or.inr rfl)
    exact m1.upM h1 (Or.inl rfl)
theorem c_removeFirst (d : DQ hs.1 dq ea hd c gs) (hF : Fi hs) (hc : 1 ≤ c) : ∃ hs' hd', t_Ev (t_pg G) t_hd Y_J2_removeFirst 0 ([some (.ref dq), none], [], hs) = rR (some (gs 0)) hs' ∧ DQ hs'.1 dq ea hd' (c - 1) (fun k => gs (k + 1)) ∧ Mx (fun q => q = dq ∨ q = ea) 0 0 hs hs' := by
  obtain ⟨fe, e2, e3⟩ := d.e2
  have l1 := d.l1
  have l2 := d.l2
  have ne := d.ne
  have f0 := e3 0 (by omega)
  rw [Nat.add_zero, Nat.mod_eq_of_lt l1] at f0
  have h1 := (t_up_n (h := hs.1) (e := (true, 5, .inr (17, rfs (va_up fe hd none)))) ne).trans d.e1
  refine ⟨(t_up (t_up hs.1 ea (true, 5, .inr (17, rfs (va_up fe hd none)))) dq (true, 9, .inl [.ref ea, .int (iI (((hd + 1) % 17 : Nat) : Int)), .int (iI (((hd + c) % 17 : Nat) : Int))]), hs.2), (hd + 1) % 17, ?_, ⟨?_, ⟨_, (t_up_n ne.symm).trans t_up_s, fun k hk => ?_⟩, by omega, by omega⟩, ?_⟩
  · have pf : t_Ev (t_pg G) t_hd Y_J2_pollFirst 0 ([some (.ref dq), none, none, none], [], hs) = rR (some (gs 0)) (t_up (t_up hs.1 ea (true, 5, .inr (17, rfs (va_up fe hd none)))) dq (true, 9, .inl [.ref ea, .int (iI (((hd + 1) % 17 : Nat) : Int)), .int (iI (((hd + c) % 17 : Nat) : Int))]), hs.2) := by
      rw [b_J2_pollFirst_0, gfR_at (k := 0) (q := ea) d.e1 rfl, Option.bind_some, gfI_at (k := 1) (x := iI (hd : Int)) d.e1 rfl, Option.bind_some, va_rf_some, b_J2_elementAt_0, ldR_at e2 (by decide) (by omega) (by omega) (by decide), Option.bind_some, Int.toNat_natCast, f0, bndR_rf, if_neg (fun h => nomatch h), stR_at (o := none) e2 rfl (by omega) (by omega) (by decide), Option.bind_some, Int.toNat_natCast, aLen_at t_up_s, Option.bind_some, show Int32.ofNat 17 = iI 17 from rfl, e_inc17 l1, bI_rI, pf_at h1 (Nat.le_of_ble_eq_true rfl), Option.bind_some]
      rfl
    rw [b_J2_removeFirst_0, kN_at d.e1, Option.bind_some, bR_ex pf, if_neg (fun h => nomatch h)]
    rfl
  · show t_up _ dq _ dq = _
    rw [t_up_s, show ((hd + 1) % 17 + (c - 1)) % 17 = (hd + c) % 17 by omega]
  · have := e3 (k + 1) (by omega)
    rw [va_up_n (by omega), show ((hd + 1) % 17 + k) % 17 = (hd + (k + 1)) % 17 by omega]
    exact this
  · have m1 : Mx (fun q => q = dq ∨ q = ea) 0 0 hs (t_up hs.1 ea (true, 5, .inr (17, rfs (va_up fe hd none))), hs.2) := Mx.up hF e2 (Or.inr rfl)
    exact m1.upM h1 (Or.inl rfl)
theorem c_removeLast (d : DQ hs.1 dq ea hd c gs) (hF : Fi hs) (hc : 1 ≤ c) : ∃ hs', t_Ev (t_pg G) t_hd Y_J2_removeLast 0 ([some (.ref dq), none], [], hs) = rR (some (gs (c - 1))) hs' ∧ DQ hs'.1 dq ea hd (c - 1) gs ∧ Mx (fun q => q = dq ∨ q = ea) 0 0 hs hs' := by
  obtain ⟨fe, e2, e3⟩ := d.e2
  have l1 := d.l1
  have l2 := d.l2
  have ne := d.ne
  obtain ⟨t, ht⟩ : ∃ t, t = (hd + (c - 1)) % 17 := ⟨_, rfl⟩
  have f0 := e3 (c - 1) (by omega)
  rw [← ht] at f0
  have t17 : t < 17 := by omega
  obtain ⟨E1, hE1⟩ : ∃ E1 : tEnt, E1 = (true, 9, .inl [.ref ea, .int (iI (hd : Int)), .int (iI (t : Int))]) := ⟨_, rfl⟩
  have h1 := (t_up_n (h := hs.1) (e := E1) ne.symm).trans e2
  have dec : t_Ev (t_pg G) t_hd Y_J2_dec 0 ([some (.int (iI (((hd + c) % 17 : Nat) : Int))), some (.int (iI 17))], [], hs) = rI (t : Int) hs := by
    rw [b_J2_dec_0, iI_add]
    simp (disch := omega) only [iI_lt]
    by_cases q : (hd + c) % 17 = 0
    · rw [if_pos (by omega), show t = 16 by omega]; rfl
    · rw [if_neg (by omega)]
      exact rI_cg (by omega)
  refine ⟨(t_up (t_up hs.1 dq E1) ea (true, 5, .inr (17, rfs (va_up fe t none))), hs.2), ?_, ⟨?_, ⟨_, t_up_s, fun k hk => ?_⟩, l1, by omega⟩, ?_⟩
  · have pf : t_Ev (t_pg G) t_hd Y_J2_pollLast 0 ([some (.ref dq), none, none, none], [], hs) = rR (some (gs (c - 1))) (t_up (t_up hs.1 dq E1) ea (true, 5, .inr (17, rfs (va_up fe t none))), hs.2) := by
      rw [b_J2_pollLast_0, gfR_at (k := 0) (q := ea) d.e1 rfl, Option.bind_some, gfI_at (k := 2) (x := iI (((hd + c) % 17 : Nat) : Int)) d.e1 rfl, Option.bind_some, va_rf_some, aLen_at e2, Option.bind_some, show Int32.ofNat 17 = iI 17 from rfl, dec, bI_rI, b_J2_elementAt_0, ldR_at e2 (by decide) (by omega) (by omega) (by decide), Option.bind_some, Int.toNat_natCast, f0, bndR_rf, if_neg (fun h => nomatch h), pf_at d.e1 (Nat.le_of_ble_eq_true rfl), Option.bind_some]
      rw [show (true, 9, .inl (([.ref ea, .int (iI (hd : Int)), .int (iI (((hd + c) % 17 : Nat) : Int))] : List Value).set 2 (.int (iI (t : Int))))) = E1 from hE1.symm]
      rw [stR_at (o := none) h1 rfl (by omega) (by omega) (by decide), Option.bind_some, Int.toNat_natCast]
      rfl
    rw [b_J2_removeLast_0, kN_at d.e1, Option.bind_some, bR_ex pf, if_neg (fun h => nomatch h)]
    rfl
  · show t_up (t_up hs.1 dq E1) ea _ dq = _
    rw [t_up_n ne, t_up_s, hE1, ht]
  · rw [va_up_n (by omega)]
    exact e3 k (by omega)
  · have m1 : Mx (fun q => q = dq ∨ q = ea) 0 0 hs (t_up hs.1 dq E1, hs.2) := Mx.up hF d.e1 (Or.inl rfl)
    exact m1.upM h1 (Or.inr rfl)
end DQS
