/-! ===== the component's parser: the place command ===== -/
section CPL
variable {G : tG} {D D' M : Nat → Prop} {hs : tHS} {u xa ia a n p0 : Nat} {inp : Nat → Int} {s : tRow}
/-- a placement made -/
theorem c_plInit {h : tHS} {z : Nat} {g : Nat} {r x y : Int} (hz : h.1 z = some (true, 5, .inl [.null, .int (iI 0), .int (iI 0), .int (iI 0)])) : t_Ev (t_pg G) t_hd Y_X8_init 0 ([some (.ref z), some (.ref g), some (.int (iI r)), some (.int (iI x)), some (.int (iI y))], [], h) = rV (t_up h.1 z (true, 5, .inl [.ref g, .int (iI r), .int (iI x), .int (iI y)]), h.2) := by
  rw [b_X8_init_0, pf_at hz (Nat.le_of_ble_eq_true rfl), Option.bind_some, pf_at t_up_s (Nat.le_of_ble_eq_true rfl), Option.bind_some, t_up_up, pf_at t_up_s (Nat.le_of_ble_eq_true rfl), Option.bind_some, t_up_up, pf_at t_up_s (Nat.le_of_ble_eq_true rfl), Option.bind_some, t_up_up]
  rfl
theorem c_shapeK {P : Option tRS → Prop} (k : PGa G D M hs u xa ia a inp n p0 s 2) (W0 : WD D' hs.1 (G.1 23) wBar) (W1 : WD D' hs.1 (G.1 33) wElbow) (W2 : WD D' hs.1 (G.1 45) wRod) (W3 : WD D' hs.1 (G.1 47) wSquare) (W4 : WD D' hs.1 (G.1 31) wCorner) {K : Option Nat → tHS → Option tRS}
    (hE : ∀ h1 E, Mx (MU u M) (16 * (tkT inp n (tkT inp n p0) - tkT inp n p0) + 1) (100 * (tkT inp n (tkT inp n p0) - tkT inp n p0) + 8) hs h1 → shpS inp n (tkT inp n p0) = -1 → PErr 1 (tkF inp n (tkT inp n p0)) hs.2.1 E h1 → P E)
    (hO : ∀ h1, Mx (MU u M) (16 * (tkT inp n (tkT inp n p0) - tkT inp n p0) + 1) (100 * (tkT inp n (tkT inp n p0) - tkT inp n p0) + 8) hs h1 → shpS inp n (tkT inp n p0) ≠ -1 → PGa G D M h1 u xa ia a inp n (tkT inp n p0) s 2 → P (K (some (G.1 (shpS inp n (tkT inp n p0)).toNat)) h1)) :
    P ((t_kN hs.1 (.ref u) 6).bind fun a_1 => bndV (t_Ev (t_pg G) t_hd Y_X6_advance 0 ([some (.ref a_1), none], [], hs)) (fun hs_2 => (t_kN hs_2.1 (.ref u) 6).bind fun a_3 => bndV (t_Ev (t_pg G) t_hd Y_X6_expect 0 ([some (.ref a_3), some (.int (iI 0))], [], hs_2)) (fun hs_4 => (t_kN hs_4.1 (.ref u) 6).bind fun a_5 => bndR (t_Ev (t_pg G) t_hd Y_X6_shapeOfWord 0 ([some (.ref a_5), none, none], [], hs_4)) K tX) tX) tX) := by
  obtain ⟨h1, m, r⟩ := c_shape k W0 W1 W2 W3 W4 (K := K)
  by_cases sd : shpS inp n (tkT inp n p0) = -1
  · rw [if_pos sd] at r
    exact hE h1 _ m sd r
  · rw [if_neg sd] at r
    rw [r.1]
    exact hO h1 m sd r.2
/-- the row's number, then the move itself -/
theorem c_plRow {h3 : tHS} {q c d z : Nat} {sh r x : Int} (k3 : PGa G D M h3 u xa ia a inp n q s 2) (w : Wf s) (hsh : 0 ≤ sh ∧ sh ≤ 4) (hr : 0 ≤ r ∧ r ≤ 3) (hx : 0 ≤ x ∧ x < s 0) (m13 : Mx (MU u M) c d hs h3) (hz : z ≤ h3.2.1) (hT0 : tkT inp n p0 ≤ tkT inp n q) (hc : c + 5 ≤ 20 * (tkT inp n q - tkT inp n p0)) (hd : d + 100 ≤ 150 * (tkT inp n q - tkT inp n p0)) :
    ∃ hs', CO G D M hs u xa ia a inp n p0 z s (nuS inp n 0 (s 1 - 1) (tkT inp n q) fun y => ckS inp n (!mayP s sh r x y) 6 (tkT inp n q) (endS inp n (plc s sh r x y) (tkT inp n q)))
      ((t_kN ((t_al h3 (true, 5, .inl [.null, .int (iI 0), .int (iI 0), .int (iI 0)]) 4).1) (.ref u) 6).bind fun a_15 => bndI (t_Ev (t_pg G) t_hd Y_X6_row 0 ([some (.ref a_15)], [], t_al h3 (true, 5, .inl [.null, .int (iI 0), .int (iI 0), .int (iI 0)]) 4)) (fun x_17 hs_16 => bndV (t_Ev (t_pg G) t_hd Y_X8_init 0 ([some (.ref h3.2.1), some (.ref (G.1 sh.toNat)), some (.int (iI r)), some (.int (iI x)), (some (.int x_17))], [], hs_16)) (fun hs_18 => (t_kN hs_18.1 (.ref a) 2).bind fun a_19 => bndI (t_Ev (t_pg G) t_hd Y_X3_put 0 ([some (.ref a_19), some (.ref h3.2.1), none, none, none], [], hs_18)) (fun x_21 hs_20 => some (.inl none, hs_20)) tX) tX) tX) hs' := by
  have hD := w.bd.dm
  have hB := w.rb
  have hT := w.py.mv.2
  have d0 := hD.1
  have d1 := hD.2
  have t3 := tkT_m (inp := inp) k3.hp
  have t4 := tkT_m (inp := inp) t3.2
  obtain ⟨kd3, va3, w3, e3⟩ := k3.u
  have u3 := k3.fi.lt e3
  have z3 := m13.2.1.1
  obtain ⟨h4, e4⟩ : ∃ h4, h4 = t_al h3 (true, 5, .inl [.null, .int (iI 0), .int (iI 0), .int (iI 0)]) 4 := ⟨_, rfl⟩
  have x4 : Ex 1 4 h3 h4 := by rw [e4]; exact Ex.al k3.fi
  have s4 : h4.2.1 = h3.2.1 + 1 := by rw [e4]; rfl
  have pz : h4.1 h3.2.1 = some (true, 5, .inl [.null, .int (iI 0), .int (iI 0), .int (iI 0)]) := by rw [e4]; exact t_up_s
  rw [← e4]
  clear e4
  have k4 := k3.ex x4
  obtain ⟨kd4, va4, w4, e4'⟩ := k4.u
  rw [kN_at e4', Option.bind_some]
  obtain ⟨h5, m5, r5⟩ := c_row k4 hD
  have z5 := m5.2.1.1
  obtain ⟨q4, hq4⟩ : ∃ q4, q4 = tkT inp n q := ⟨_, rfl⟩
  rw [← hq4] at m5 r5 t3 t4 hT0 hc hd ⊢
  by_cases c5 : hC inp n 0 (s 1 - 1) q4 = 0
  case neg =>
    rw [if_neg c5] at r5
    rw [nuS_er c5]
    exact ⟨h5, Or.inl ⟨_, rfl, r5.bI.le (by omega), ((m13.trans (Mx.u0 x4).mu).trans m5.mu).le (by omega) (by omega)⟩⟩
  rw [if_pos c5] at r5
  have b5 := hC_ok c5
  have lt5 := tkT_lt (inp := inp) t3.2 (by omega)
  have k5 := k4.mv m5 t3.2 r5.2.u
  obtain ⟨kd5, va5, w5, e5⟩ := k5.u
  have pz5 : h5.1 h3.2.1 = some (true, 5, .inl [.null, .int (iI 0), .int (iI 0), .int (iI 0)]) := (m5.1 h3.2.1 (by omega) (by omega)).trans pz
  rw [nuS_ok c5, r5.1, bI_rI, c_plInit pz5, bV_rV]
  generalize tkV inp n q4 = y at b5 ⊢
  have m36 := ((Mx.u0 (u := u) x4).trans m5).fresh (Mx.up (M := fun q => h3.2.1 ≤ q) (c := 0) (d := 0) (e := (true, 5, .inl [.ref (G.1 sh.toNat), .int (iI r), .int (iI x), .int (iI y)])) k5.fi pz5 (Nat.le_refl _))
  obtain ⟨h6, e6⟩ : ∃ h6 : tHS, h6 = (t_up h5.1 h3.2.1 (true, 5, .inl [.ref (G.1 sh.toNat), .int (iI r), .int (iI x), .int (iI y)]), h5.2) := ⟨_, rfl⟩
  rw [← e6] at m36 ⊢
  have z6 := m36.2.1.1
  have e6u : h6.1 u = some (pcl (.ref a) (tkT inp n q4) (tkF inp n q4) kd5 va5 w5 xa) := by rw [e6]; exact (t_up_n (by omega)).trans e5
  have P : PL G D h6.1 h3.2.1 sh r x y := ⟨k3.dz _ u3, by rw [e6]; exact t_up_s⟩
  clear e6
  have k6 := k3.mv m36 t3.2 ⟨kd5, va5, w5, e6u⟩
  have m16 := m13.trans (m36.mu (M := M))
  have uz6 := k6.fi.lt e6u
  rw [k6.gr.k, Option.bind_some]
  have f := c_put (G := G) k6.gr k6.ch P k6.fi (k6.dz _ uz6) hD hB hT (fun hm => w.bd.p31 hsh.1 hsh.2 hr.1 hr.2 hm) hsh.1 hsh.2 hr.1 hr.2 (by omega) (by omega)
  clear pz pz5 k5 k4 m5 x4 r5
  cases cm : mayP s sh r x y with
  | true =>
    rw [if_pos cm] at f
    obtain ⟨h7, e7, g7, m7⟩ := f
    rw [ckS_nf, e7, bI_rI]
    exact ⟨h7, Or.inr (Or.inr ⟨_, _, rfl, rfl, k6.gm m7 g7, by omega, (m16.trans m7.mg).le (by omega) (by omega)⟩)⟩
  | false =>
    rw [if_neg (by rw [cm]; decide)] at f
    rw [ckS_nt, f]
    have xa : Ex 1 6 h6 (t_al h6 (true, 14, .inl []) 6) := Ex.al k6.fi
    exact ⟨_, Or.inr (Or.inl ⟨_, rfl, ⟨h6.2.1, rfl, t_up_s⟩, k6.ex xa, by omega, (m16.trans (Mx.u0 xa).mu).le (by omega) (by omega)⟩)⟩
theorem c_cmdPlace (k : PGa G D M hs u xa ia a inp n p0 s 2) (w : Wf s) (W0 : WD D' hs.1 (G.1 23) wBar) (W1 : WD D' hs.1 (G.1 33) wElbow) (W2 : WD D' hs.1 (G.1 45) wRod) (W3 : WD D' hs.1 (G.1 47) wSquare) (W4 : WD D' hs.1 (G.1 31) wCorner) {v1 v3 v4 v5 : Option Value} : ∃ hs', CO G D M hs u xa ia a inp n p0 hs.2.1 s (placeS inp n s p0) (t_Ev (t_pg G) t_hd Y_X6_parseCommand 83 ([some (.ref u), v1, some (.int (iI 0)), v3, v4, v5], [], hs)) hs' := by
  have hD := w.bd.dm
  have d0 := hD.1
  have t0 := tkT_m (inp := inp) k.hp
  rw [b_X6_parseCommand_83, if_pos rfl]
  refine c_shapeK (P := fun E => ∃ hs', CO G D M hs u xa ia a inp n p0 hs.2.1 s (placeS inp n s p0) E hs') k W0 W1 W2 W3 W4 ?_ ?_
  · intro h1 E m1 sd p
    have t1 := tkT_m (inp := inp) t0.2
    have er : placeS inp n s p0 = .inl (1, tkF inp n (tkT inp n p0)) := by
      unfold placeS
      try dsimp only
      rw [ckS_t (decide_eq_true sd)]
    exact ⟨h1, Or.inl ⟨_, er, p, m1.le (by omega) (by omega)⟩⟩
  intro h1 m1 sd k1
  have z1 := m1.2.1.1
  have hsh := shpS_c (inp := inp) (n := n) (p := tkT inp n p0)
  have k1s := shpS_1 sd
  unfold placeS
  try dsimp only
  generalize shpS inp n (tkT inp n p0) = sh at sd hsh ⊢
  obtain ⟨p1, hp1⟩ : ∃ p1, p1 = tkT inp n p0 := ⟨_, rfl⟩
  rw [← hp1] at m1 k1 k1s t0 ⊢
  have t1 := tkT_m (inp := inp) t0.2
  have lt1 := tkT_lt (inp := inp) t0.2 (by omega)
  obtain ⟨kd1, va1, w1, e1⟩ := k1.u
  rw [ckS_f (decide_eq_false sd), kN_at e1, Option.bind_some]
  obtain ⟨h2, m2, r2⟩ := c_number (G := G) k1.fi k1.ib k1.h6 k1.hp k1.tk k1.ci (lo := 0) (hi := 3) (by omega) (by omega)
  have z2 := m2.2.1.1
  obtain ⟨p2, hp2⟩ : ∃ p2, p2 = tkT inp n p1 := ⟨_, rfl⟩
  rw [← hp2] at m1 m2 r2 t1 lt1 ⊢
  have t2 := tkT_m (inp := inp) t1.2
  by_cases c2 : hC inp n 0 3 p2 = 0
  case neg =>
    rw [if_neg c2] at r2
    rw [nuS_er c2]
    exact ⟨h2, Or.inl ⟨_, rfl, r2.bI.le z1, (m1.trans m2.mu).le (by omega) (by omega)⟩⟩
  rw [if_pos c2] at r2
  have b2 := hC_ok c2
  have lt2 := tkT_lt (inp := inp) t1.2 (by omega)
  have k2 := k1.mv m2 t1.2 r2.2.u
  obtain ⟨kd2, va2, w2, e2⟩ := k2.u
  have m12 := m1.trans (m2.mu (M := M))
  rw [nuS_ok c2, r2.1, bI_rI, kN_at e2, Option.bind_some]
  obtain ⟨h3, m3, r3⟩ := c_column k2 hD
  have z3 := m3.2.1.1
  obtain ⟨p3, hp3⟩ : ∃ p3, p3 = tkT inp n p2 := ⟨_, rfl⟩
  rw [← hp3] at m12 m3 r3 t2 lt2 ⊢
  have t3 := tkT_m (inp := inp) t2.2
  by_cases c3 : hC inp n 0 (s 0 - 1) p3 = 0
  case neg =>
    rw [if_neg c3] at r3
    rw [nuS_er c3]
    exact ⟨h3, Or.inl ⟨_, rfl, r3.bI.le (by omega), (m12.trans m3.mu).le (by rw [← hp1]; omega) (by rw [← hp1]; omega)⟩⟩
  rw [if_pos c3] at r3
  have b3 := hC_ok c3
  have lt3 := tkT_lt (inp := inp) t2.2 (by omega)
  have k3 := k2.mv m3 t2.2 r3.2.u
  obtain ⟨kd3, va3, w3, e3⟩ := k3.u
  rw [nuS_ok c3, r3.1, bI_rI, gfR_at (k := 0) (q := a) e3 rfl, Option.bind_some]
  exact c_plRow k3 w (by omega) (by omega) (by omega) (m12.trans (m3.mu (M := M))) (by omega) (by rw [← hp1]; omega) (by rw [← hp1]; omega) (by rw [← hp1]; omega)
end CPL
